/-! Rows by place, printed by tools/gen3.py. -/
section
variable {a0 a1 a2 a3 a4 a5 a6 a7 a8 a9 a10 a11 a12 a13 a14 a15 a16 a17 a18 a19 : V} {x y z x0 x1 x2 x3 x4 x5 x6 x7 x8 : Int} {r q r0 r1 r2 r3 r4 r5 r6 r7 r8 : Option Nat} {a b lv : Nat} {L S : List V} {h : MH} {Q : ZO → MH → Prop}
/-! RepeatFreeModel.against(IIII)Z -/
theorem s134_0 : WP 134 0 0 [vA r, a1, a2, a3, a4, a5, a6, a7, a8] S h Q ↔ WP 134 0 1 [vA r, a1, a2, a3, a4, a5, a6, a7, a8] (vA r :: S) h Q := wp_aload rfl rfl
theorem s134_1 : WP 134 0 1 [a0, vI x, a2, a3, a4, a5, a6, a7, a8] S h Q ↔ WP 134 0 2 [a0, vI x, a2, a3, a4, a5, a6, a7, a8] (vI x :: S) h Q := wp_iload rfl rfl
theorem s134_2 : WP 134 0 2 [a0, a1, vI x, a3, a4, a5, a6, a7, a8] S h Q ↔ WP 134 0 3 [a0, a1, vI x, a3, a4, a5, a6, a7, a8] (vI x :: S) h Q := wp_iload rfl rfl
theorem s134_3 : WP 134 0 3 L (vI x1 :: vI x0 :: vA (some a) :: S) h Q ↔ ((hk h a).1 = 110 ∧ (zw S ≤ 8 ∧ WP 210 0 0 [vA (some a), vI x0, vI x1] [] h (zret 134 0 3 6 L S Q))) := wp_V1 (c := 110) rfl rfl (fun _ => rfl) rfl rfl (zcan_of rfl rfl) rfl rfl rfl
theorem s134_6 : WP 134 0 6 [a0, a1, a2, vI x, a4, a5, a6, a7, a8] S h Q ↔ WP 134 0 7 [a0, a1, a2, vI x, a4, a5, a6, a7, a8] (vI x :: S) h Q := wp_iload rfl rfl
theorem s134_7 : WP 134 0 7 L (vI y :: vI x :: S) h Q ↔ WP 134 0 8 L (vI (wr (x - y)) :: S) h Q := wp_pl rfl rfl rfl
theorem s134_8 : WP 134 0 8 [a0, a1, a2, a3, a4, a5, a6, a7, a8] (vI x :: S) h Q ↔ WP 134 0 10 [a0, a1, a2, a3, a4, vI x, a6, a7, a8] S h Q := wp_istore rfl rfl rfl
theorem s134_10 : WP 134 0 10 [a0, a1, a2, a3, a4, vI x, a6, a7, a8] S h Q ↔ WP 134 0 12 [a0, a1, a2, a3, a4, vI x, a6, a7, a8] (vI x :: S) h Q := wp_iload rfl rfl
theorem s134_12 : WP 134 0 12 [vA r, a1, a2, a3, a4, a5, a6, a7, a8] S h Q ↔ WP 134 0 13 [vA r, a1, a2, a3, a4, a5, a6, a7, a8] (vA r :: S) h Q := wp_aload rfl rfl
theorem s134_13 : WP 134 0 13 [a0, vI x, a2, a3, a4, a5, a6, a7, a8] S h Q ↔ WP 134 0 14 [a0, vI x, a2, a3, a4, a5, a6, a7, a8] (vI x :: S) h Q := wp_iload rfl rfl
theorem s134_14 : WP 134 0 14 [a0, a1, a2, a3, vI x, a5, a6, a7, a8] S h Q ↔ WP 134 0 16 [a0, a1, a2, a3, vI x, a5, a6, a7, a8] (vI x :: S) h Q := wp_iload rfl rfl
theorem s134_16 : WP 134 0 16 L (vI x1 :: vI x0 :: vA (some a) :: S) h Q ↔ ((hk h a).1 = 110 ∧ (zw S ≤ 8 ∧ WP 210 0 0 [vA (some a), vI x0, vI x1] [] h (zret 134 0 16 19 L S Q))) := wp_V1 (c := 110) rfl rfl (fun _ => rfl) rfl rfl (zcan_of rfl rfl) rfl rfl rfl
theorem s134_19 : WP 134 0 19 L (vI x1 :: vI x0 :: S) h Q ↔ (zw S ≤ 8 ∧ WP 384 0 0 [vI x0, vI x1] [] h (zret 134 0 19 22 L S Q)) := wp_S rfl rfl (zcan_of rfl rfl) rfl rfl rfl
theorem s134_22 : WP 134 0 22 [a0, a1, a2, a3, a4, a5, a6, a7, a8] (vI x :: S) h Q ↔ WP 134 0 24 [a0, a1, a2, a3, a4, a5, vI x, a7, a8] S h Q := wp_istore rfl rfl rfl
theorem s134_24 : WP 134 0 24 L S h Q ↔ WP 134 0 25 L (vI 0 :: S) h Q := wp_pl rfl rfl rfl
theorem s134_25 : WP 134 0 25 [a0, a1, a2, a3, a4, a5, a6, a7, a8] (vI x :: S) h Q ↔ WP 134 0 27 [a0, a1, a2, a3, a4, a5, a6, vI x, a8] S h Q := wp_istore rfl rfl rfl
theorem s134_27 : WP 134 0 27 [a0, a1, a2, a3, a4, a5, a6, vI x, a8] S h Q ↔ WP 134 0 29 [a0, a1, a2, a3, a4, a5, a6, vI x, a8] (vI x :: S) h Q := wp_iload rfl rfl
theorem s134_29 : WP 134 0 29 [a0, a1, a2, a3, a4, a5, vI x, a7, a8] S h Q ↔ WP 134 0 31 [a0, a1, a2, a3, a4, a5, vI x, a7, a8] (vI x :: S) h Q := wp_iload rfl rfl
theorem s134_31 : WP 134 0 31 L (vI y :: vI x :: S) h Q ↔ zif (x < y) (WP 134 0 34 L S h Q) (WP 134 0 64 L S h Q) := wp_bN zc_lt rfl rfl rfl
theorem s134_34 : WP 134 0 34 [vA r, a1, a2, a3, a4, a5, a6, a7, a8] S h Q ↔ WP 134 0 35 [vA r, a1, a2, a3, a4, a5, a6, a7, a8] (vA r :: S) h Q := wp_aload rfl rfl
theorem s134_35 : WP 134 0 35 [a0, vI x, a2, a3, a4, a5, a6, a7, a8] S h Q ↔ WP 134 0 36 [a0, vI x, a2, a3, a4, a5, a6, a7, a8] (vI x :: S) h Q := wp_iload rfl rfl
theorem s134_36 : WP 134 0 36 [a0, a1, vI x, a3, a4, a5, a6, a7, a8] S h Q ↔ WP 134 0 37 [a0, a1, vI x, a3, a4, a5, a6, a7, a8] (vI x :: S) h Q := wp_iload rfl rfl
theorem s134_37 : WP 134 0 37 [a0, a1, a2, vI x, a4, a5, a6, a7, a8] S h Q ↔ WP 134 0 38 [a0, a1, a2, vI x, a4, a5, a6, a7, a8] (vI x :: S) h Q := wp_iload rfl rfl
theorem s134_38 : WP 134 0 38 [a0, a1, a2, a3, a4, a5, a6, vI x, a8] S h Q ↔ WP 134 0 40 [a0, a1, a2, a3, a4, a5, a6, vI x, a8] (vI x :: S) h Q := wp_iload rfl rfl
theorem s134_40 : WP 134 0 40 L (vI y :: vI x :: S) h Q ↔ WP 134 0 41 L (vI (wr (x + y)) :: S) h Q := wp_pl rfl rfl rfl
theorem s134_41 : WP 134 0 41 L (vI x2 :: vI x1 :: vI x0 :: vA (some a) :: S) h Q ↔ ((hk h a).1 = 110 ∧ (zw S ≤ 8 ∧ WP 180 0 0 [vA (some a), vI x0, vI x1, vI x2] [] h (zret 134 0 41 44 L S Q))) := wp_V1 (c := 110) rfl rfl (fun _ => rfl) rfl rfl (zcan_of rfl rfl) rfl rfl rfl
theorem s134_44 : WP 134 0 44 [vA r, a1, a2, a3, a4, a5, a6, a7, a8] S h Q ↔ WP 134 0 45 [vA r, a1, a2, a3, a4, a5, a6, a7, a8] (vA r :: S) h Q := wp_aload rfl rfl
theorem s134_45 : WP 134 0 45 [a0, vI x, a2, a3, a4, a5, a6, a7, a8] S h Q ↔ WP 134 0 46 [a0, vI x, a2, a3, a4, a5, a6, a7, a8] (vI x :: S) h Q := wp_iload rfl rfl
theorem s134_46 : WP 134 0 46 [a0, a1, a2, a3, vI x, a5, a6, a7, a8] S h Q ↔ WP 134 0 48 [a0, a1, a2, a3, vI x, a5, a6, a7, a8] (vI x :: S) h Q := wp_iload rfl rfl
theorem s134_48 : WP 134 0 48 [a0, a1, a2, a3, a4, a5, a6, vI x, a8] S h Q ↔ WP 134 0 50 [a0, a1, a2, a3, a4, a5, a6, vI x, a8] (vI x :: S) h Q := wp_iload rfl rfl
theorem s134_50 : WP 134 0 50 L (vI x2 :: vI x1 :: vI x0 :: vA (some a) :: S) h Q ↔ ((hk h a).1 = 110 ∧ (zw S ≤ 8 ∧ WP 180 0 0 [vA (some a), vI x0, vI x1, vI x2] [] h (zret 134 0 50 53 L S Q))) := wp_V1 (c := 110) rfl rfl (fun _ => rfl) rfl rfl (zcan_of rfl rfl) rfl rfl rfl
theorem s134_53 : WP 134 0 53 L (vI y :: vI x :: S) h Q ↔ zif (x = y) (WP 134 0 58 L S h Q) (WP 134 0 56 L S h Q) := wp_bE zc_eq rfl rfl rfl
theorem s134_56 : WP 134 0 56 L S h Q ↔ WP 134 0 57 L (vI 0 :: S) h Q := wp_pl rfl rfl rfl
theorem s134_57 : WP 134 0 57 L [vI x] h Q ↔ ((x = 0 ∨ x = 1) ∧ Q (.inl (some (vI x))) h) := wp_iret rfl rfl
theorem s134_58 : WP 134 0 58 [a0, a1, a2, a3, a4, a5, a6, vI x, a8] S h Q ↔ WP 134 0 61 [a0, a1, a2, a3, a4, a5, a6, vI (wr (x + 1)), a8] S h Q := wp_iinc rfl rfl rfl
theorem s134_61 : WP 134 0 61 L S h Q ↔ WP 134 0 27 L S h Q := wp_pl rfl rfl rfl
theorem s134_64 : WP 134 0 64 [a0, a1, a2, a3, a4, vI x, a6, a7, a8] S h Q ↔ WP 134 0 66 [a0, a1, a2, a3, a4, vI x, a6, a7, a8] (vI x :: S) h Q := wp_iload rfl rfl
theorem s134_66 : WP 134 0 66 [vA r, a1, a2, a3, a4, a5, a6, a7, a8] S h Q ↔ WP 134 0 67 [vA r, a1, a2, a3, a4, a5, a6, a7, a8] (vA r :: S) h Q := wp_aload rfl rfl
theorem s134_67 : WP 134 0 67 [a0, vI x, a2, a3, a4, a5, a6, a7, a8] S h Q ↔ WP 134 0 68 [a0, vI x, a2, a3, a4, a5, a6, a7, a8] (vI x :: S) h Q := wp_iload rfl rfl
theorem s134_68 : WP 134 0 68 [a0, a1, a2, a3, vI x, a5, a6, a7, a8] S h Q ↔ WP 134 0 70 [a0, a1, a2, a3, vI x, a5, a6, a7, a8] (vI x :: S) h Q := wp_iload rfl rfl
theorem s134_70 : WP 134 0 70 L (vI x1 :: vI x0 :: vA (some a) :: S) h Q ↔ ((hk h a).1 = 110 ∧ (zw S ≤ 8 ∧ WP 210 0 0 [vA (some a), vI x0, vI x1] [] h (zret 134 0 70 73 L S Q))) := wp_V1 (c := 110) rfl rfl (fun _ => rfl) rfl rfl (zcan_of rfl rfl) rfl rfl rfl
theorem s134_73 : WP 134 0 73 L (vI y :: vI x :: S) h Q ↔ zif (x = y) (WP 134 0 76 L S h Q) (WP 134 0 83 L S h Q) := wp_bN zc_eq rfl rfl rfl
theorem s134_76 : WP 134 0 76 [vA r, a1, a2, a3, a4, a5, a6, a7, a8] S h Q ↔ WP 134 0 77 [vA r, a1, a2, a3, a4, a5, a6, a7, a8] (vA r :: S) h Q := wp_aload rfl rfl
theorem s134_77 : WP 134 0 77 L S h Q ↔ WP 134 0 78 L (vI 1 :: S) h Q := wp_pl rfl rfl rfl
theorem s134_78 : WP 134 0 78 L (vI x :: vA (some a) :: S) h Q ↔ ((zNC ≤ a ∧ zhas 75 (hk h a) = true ∧ (x = 0 ∨ x = 1)) ∧ WP 134 0 81 L S (hput h a 75 (vI x)) Q) := wp_put1 rfl rfl
theorem s134_81 : WP 134 0 81 L S h Q ↔ WP 134 0 82 L (vI 0 :: S) h Q := wp_pl rfl rfl rfl
theorem s134_82 : WP 134 0 82 L [vI x] h Q ↔ ((x = 0 ∨ x = 1) ∧ Q (.inl (some (vI x))) h) := wp_iret rfl rfl
theorem s134_83 : WP 134 0 83 [a0, a1, a2, a3, a4, vI x, a6, a7, a8] S h Q ↔ WP 134 0 85 [a0, a1, a2, a3, a4, vI x, a6, a7, a8] (vI x :: S) h Q := wp_iload rfl rfl
theorem s134_85 : WP 134 0 85 [a0, a1, a2, a3, a4, a5, vI x, a7, a8] S h Q ↔ WP 134 0 87 [a0, a1, a2, a3, a4, a5, vI x, a7, a8] (vI x :: S) h Q := wp_iload rfl rfl
theorem s134_87 : WP 134 0 87 L (vI y :: vI x :: S) h Q ↔ zif (y < x) (WP 134 0 90 L S h Q) (WP 134 0 102 L S h Q) := wp_bN zc_gt rfl rfl rfl
theorem s134_90 : WP 134 0 90 L S h Q ↔ WP 134 0 92 L (vI 6 :: S) h Q := wp_pl rfl rfl rfl
theorem s134_92 : WP 134 0 92 [a0, a1, vI x, a3, a4, a5, a6, a7, a8] S h Q ↔ WP 134 0 93 [a0, a1, vI x, a3, a4, a5, a6, a7, a8] (vI x :: S) h Q := wp_iload rfl rfl
theorem s134_93 : WP 134 0 93 L (vI y :: vI x :: S) h Q ↔ WP 134 0 94 L (vI (wr (x * y)) :: S) h Q := wp_pl rfl rfl rfl
theorem s134_94 : WP 134 0 94 [a0, a1, a2, vI x, a4, a5, a6, a7, a8] S h Q ↔ WP 134 0 95 [a0, a1, a2, vI x, a4, a5, a6, a7, a8] (vI x :: S) h Q := wp_iload rfl rfl
theorem s134_95 : WP 134 0 95 L (vI y :: vI x :: S) h Q ↔ WP 134 0 96 L (vI (wr (x + y)) :: S) h Q := wp_pl rfl rfl rfl
theorem s134_96 : WP 134 0 96 [a0, a1, a2, a3, a4, a5, vI x, a7, a8] S h Q ↔ WP 134 0 98 [a0, a1, a2, a3, a4, a5, vI x, a7, a8] (vI x :: S) h Q := wp_iload rfl rfl
theorem s134_98 : WP 134 0 98 L (vI y :: vI x :: S) h Q ↔ WP 134 0 99 L (vI (wr (x + y)) :: S) h Q := wp_pl rfl rfl rfl
theorem s134_99 : WP 134 0 99 L S h Q ↔ WP 134 0 110 L S h Q := wp_pl rfl rfl rfl
theorem s134_102 : WP 134 0 102 L S h Q ↔ WP 134 0 104 L (vI 6 :: S) h Q := wp_pl rfl rfl rfl
theorem s134_104 : WP 134 0 104 [a0, a1, a2, a3, vI x, a5, a6, a7, a8] S h Q ↔ WP 134 0 106 [a0, a1, a2, a3, vI x, a5, a6, a7, a8] (vI x :: S) h Q := wp_iload rfl rfl
theorem s134_106 : WP 134 0 106 L (vI y :: vI x :: S) h Q ↔ WP 134 0 107 L (vI (wr (x * y)) :: S) h Q := wp_pl rfl rfl rfl
theorem s134_107 : WP 134 0 107 [a0, a1, a2, a3, a4, a5, vI x, a7, a8] S h Q ↔ WP 134 0 109 [a0, a1, a2, a3, a4, a5, vI x, a7, a8] (vI x :: S) h Q := wp_iload rfl rfl
theorem s134_109 : WP 134 0 109 L (vI y :: vI x :: S) h Q ↔ WP 134 0 110 L (vI (wr (x + y)) :: S) h Q := wp_pl rfl rfl rfl
theorem s134_110 : WP 134 0 110 [a0, a1, a2, a3, a4, a5, a6, a7, a8] (vI x :: S) h Q ↔ WP 134 0 112 [a0, a1, a2, a3, a4, a5, a6, vI x, a8] S h Q := wp_istore rfl rfl rfl
theorem s134_112 : WP 134 0 112 [vA r, a1, a2, a3, a4, a5, a6, a7, a8] S h Q ↔ WP 134 0 113 [vA r, a1, a2, a3, a4, a5, a6, a7, a8] (vA r :: S) h Q := wp_aload rfl rfl
theorem s134_113 : WP 134 0 113 L (vA (some a) :: S) h Q ↔ (zhas 74 (hk h a) = true ∧ WP 134 0 116 L (hm h a 74 :: S) h Q) := wp_if rfl rfl rfl
theorem s134_116 : WP 134 0 116 [a0, a1, a2, a3, a4, a5, a6, vI x, a8] S h Q ↔ WP 134 0 118 [a0, a1, a2, a3, a4, a5, a6, vI x, a8] (vI x :: S) h Q := wp_iload rfl rfl
theorem s134_118 : WP 134 0 118 L (vI x :: vA (some a) :: S) h Q ↔ ((((hk h a).1 = 2 ∨ (hk h a).1 = 3) ∧ 0 ≤ x ∧ x < ((hk h a).2 : Int)) ∧ WP 134 0 119 L (hm h a x.toNat :: S) h Q) := wp_if rfl rfl rfl
theorem s134_119 : WP 134 0 119 L (vI x :: S) h Q ↔ zif (x = 0) (WP 134 0 122 L S h Q) (WP 134 0 126 L S h Q) := wp_bN zc_eq rfl rfl rfl
theorem s134_122 : WP 134 0 122 L S h Q ↔ WP 134 0 123 L (vI 1 :: S) h Q := wp_pl rfl rfl rfl
theorem s134_123 : WP 134 0 123 L S h Q ↔ WP 134 0 127 L S h Q := wp_pl rfl rfl rfl
theorem s134_126 : WP 134 0 126 L S h Q ↔ WP 134 0 127 L (vI 0 :: S) h Q := wp_pl rfl rfl rfl
theorem s134_127 : WP 134 0 127 [a0, a1, a2, a3, a4, a5, a6, a7, a8] (vI x :: S) h Q ↔ WP 134 0 129 [a0, a1, a2, a3, a4, a5, a6, a7, vI x] S h Q := wp_istore rfl rfl rfl
theorem s134_129 : WP 134 0 129 [vA r, a1, a2, a3, a4, a5, a6, a7, a8] S h Q ↔ WP 134 0 130 [vA r, a1, a2, a3, a4, a5, a6, a7, a8] (vA r :: S) h Q := wp_aload rfl rfl
theorem s134_130 : WP 134 0 130 L (vA (some a) :: S) h Q ↔ (zhas 74 (hk h a) = true ∧ WP 134 0 133 L (hm h a 74 :: S) h Q) := wp_if rfl rfl rfl
theorem s134_133 : WP 134 0 133 [a0, a1, a2, a3, a4, a5, a6, vI x, a8] S h Q ↔ WP 134 0 135 [a0, a1, a2, a3, a4, a5, a6, vI x, a8] (vI x :: S) h Q := wp_iload rfl rfl
theorem s134_135 : WP 134 0 135 L S h Q ↔ WP 134 0 136 L (vI 1 :: S) h Q := wp_pl rfl rfl rfl
theorem s134_136 : WP 134 0 136 L (vI y :: vI x :: vA (some a) :: S) h Q ↔ ((((hk h a).1 = 2 ∨ (hk h a).1 = 3) ∧ (0 ≤ x ∧ x < ((hk h a).2 : Int)) ∧ zNC ≤ a ∧ ((hk h a).1 = 3 → y = 0 ∨ y = 1)) ∧ WP 134 0 137 L S (hput h a x.toNat (vI (if (hk h a).1 = 2 then wb y else y))) Q) := wp_if rfl rfl rfl
theorem s134_137 : WP 134 0 137 [a0, a1, a2, a3, a4, a5, a6, a7, vI x] S h Q ↔ WP 134 0 139 [a0, a1, a2, a3, a4, a5, a6, a7, vI x] (vI x :: S) h Q := wp_iload rfl rfl
theorem s134_139 : WP 134 0 139 L [vI x] h Q ↔ ((x = 0 ∨ x = 1) ∧ Q (.inl (some (vI x))) h) := wp_iret rfl rfl
/-! RepeatFreeModel.ahead()I -/
theorem s135_0 : WP 135 0 0 [vA r, a1, a2] S h Q ↔ WP 135 0 1 [vA r, a1, a2] (vA r :: S) h Q := wp_aload rfl rfl
theorem s135_1 : WP 135 0 1 L S h Q ↔ WP 135 0 2 L (vI 0 :: S) h Q := wp_pl rfl rfl rfl
theorem s135_2 : WP 135 0 2 L (vI x :: vA (some a) :: S) h Q ↔ ((zNC ≤ a ∧ zhas 45 (hk h a) = true) ∧ WP 135 0 5 L S (hput h a 45 (vI x)) Q) := wp_put0 rfl rfl
theorem s135_5 : WP 135 0 5 [vA r, a1, a2] S h Q ↔ WP 135 0 6 [vA r, a1, a2] (vA r :: S) h Q := wp_aload rfl rfl
theorem s135_6 : WP 135 0 6 L (vA (some a) :: S) h Q ↔ (zhas 59 (hk h a) = true ∧ WP 135 0 9 L (hm h a 59 :: S) h Q) := wp_if rfl rfl rfl
theorem s135_9 : WP 135 0 9 L S h Q ↔ WP 135 0 11 L (vI 64 :: S) h Q := wp_pl rfl rfl rfl
theorem s135_11 : WP 135 0 11 L (vI y :: vI x :: S) h Q ↔ zif (x = y) (WP 135 0 14 L S h Q) (WP 135 0 16 L S h Q) := wp_bN zc_eq rfl rfl rfl
theorem s135_14 : WP 135 0 14 L S h Q ↔ WP 135 0 15 L (vI 0 :: S) h Q := wp_pl rfl rfl rfl
theorem s135_15 : WP 135 0 15 L [vI x] h Q ↔ Q (.inl (some (vI x))) h := wp_iret0 rfl rfl
theorem s135_16 : WP 135 0 16 L S h Q ↔ WP 135 0 17 L (vI 0 :: S) h Q := wp_pl rfl rfl rfl
theorem s135_17 : WP 135 0 17 [a0, a1, a2] (vI x :: S) h Q ↔ WP 135 0 18 [a0, vI x, a2] S h Q := wp_istore rfl rfl rfl
theorem s135_18 : WP 135 0 18 [a0, vI x, a2] S h Q ↔ WP 135 0 19 [a0, vI x, a2] (vI x :: S) h Q := wp_iload rfl rfl
theorem s135_19 : WP 135 0 19 [vA r, a1, a2] S h Q ↔ WP 135 0 20 [vA r, a1, a2] (vA r :: S) h Q := wp_aload rfl rfl
theorem s135_20 : WP 135 0 20 L (vA (some a) :: S) h Q ↔ (zhas 59 (hk h a) = true ∧ WP 135 0 23 L (hm h a 59 :: S) h Q) := wp_if rfl rfl rfl
theorem s135_23 : WP 135 0 23 L (vI y :: vI x :: S) h Q ↔ zif (x < y) (WP 135 0 26 L S h Q) (WP 135 0 46 L S h Q) := wp_bN zc_lt rfl rfl rfl
theorem s135_26 : WP 135 0 26 [vA r, a1, a2] S h Q ↔ WP 135 0 27 [vA r, a1, a2] (vA r :: S) h Q := wp_aload rfl rfl
theorem s135_27 : WP 135 0 27 L (vA (some a) :: S) h Q ↔ (zhas 58 (hk h a) = true ∧ WP 135 0 30 L (hm h a 58 :: S) h Q) := wp_if rfl rfl rfl
theorem s135_30 : WP 135 0 30 [a0, vI x, a2] S h Q ↔ WP 135 0 31 [a0, vI x, a2] (vI x :: S) h Q := wp_iload rfl rfl
theorem s135_31 : WP 135 0 31 L S h Q ↔ WP 135 0 32 L (vI 1 :: S) h Q := wp_pl rfl rfl rfl
theorem s135_32 : WP 135 0 32 L (vI y :: vI x :: S) h Q ↔ WP 135 0 33 L (vI (wr (x + y)) :: S) h Q := wp_pl rfl rfl rfl
theorem s135_33 : WP 135 0 33 [vA r, a1, a2] S h Q ↔ WP 135 0 34 [vA r, a1, a2] (vA r :: S) h Q := wp_aload rfl rfl
theorem s135_34 : WP 135 0 34 L (vA (some a) :: S) h Q ↔ (zhas 57 (hk h a) = true ∧ WP 135 0 37 L (hm h a 57 :: S) h Q) := wp_if rfl rfl rfl
theorem s135_37 : WP 135 0 37 [a0, vI x, a2] S h Q ↔ WP 135 0 38 [a0, vI x, a2] (vI x :: S) h Q := wp_iload rfl rfl
theorem s135_38 : WP 135 0 38 L (vI x :: vA (some a) :: S) h Q ↔ (((hk h a).1 = 1 ∧ 0 ≤ x ∧ x < ((hk h a).2 : Int)) ∧ WP 135 0 39 L (hm h a x.toNat :: S) h Q) := wp_if rfl rfl rfl
theorem s135_39 : WP 135 0 39 L (vI y :: vI x :: vA (some a) :: S) h Q ↔ (((hk h a).1 = 1 ∧ (0 ≤ x ∧ x < ((hk h a).2 : Int)) ∧ zNC ≤ a) ∧ WP 135 0 40 L S (hput h a x.toNat (vI y)) Q) := wp_if rfl rfl rfl
theorem s135_40 : WP 135 0 40 [a0, vI x, a2] S h Q ↔ WP 135 0 43 [a0, vI (wr (x + 1)), a2] S h Q := wp_iinc rfl rfl rfl
theorem s135_43 : WP 135 0 43 L S h Q ↔ WP 135 0 18 L S h Q := wp_pl rfl rfl rfl
theorem s135_46 : WP 135 0 46 L S h Q ↔ WP 135 0 47 L (vI 0 :: S) h Q := wp_pl rfl rfl rfl
theorem s135_47 : WP 135 0 47 [a0, a1, a2] (vI x :: S) h Q ↔ WP 135 0 48 [a0, vI x, a2] S h Q := wp_istore rfl rfl rfl
theorem s135_48 : WP 135 0 48 L S h Q ↔ WP 135 0 49 L (vI 0 :: S) h Q := wp_pl rfl rfl rfl
theorem s135_49 : WP 135 0 49 [a0, a1, a2] (vI x :: S) h Q ↔ WP 135 0 50 [a0, a1, vI x] S h Q := wp_istore rfl rfl rfl
theorem s135_50 : WP 135 0 50 [a0, a1, vI x] S h Q ↔ WP 135 0 51 [a0, a1, vI x] (vI x :: S) h Q := wp_iload rfl rfl
theorem s135_51 : WP 135 0 51 [vA r, a1, a2] S h Q ↔ WP 135 0 52 [vA r, a1, a2] (vA r :: S) h Q := wp_aload rfl rfl
theorem s135_52 : WP 135 0 52 L (vA (some a) :: S) h Q ↔ (zhas 54 (hk h a) = true ∧ WP 135 0 55 L (hm h a 54 :: S) h Q) := wp_if rfl rfl rfl
theorem s135_55 : WP 135 0 55 L S h Q ↔ WP 135 0 56 L (vI 0 :: S) h Q := wp_pl rfl rfl rfl
theorem s135_56 : WP 135 0 56 L (vI x :: vA (some a) :: S) h Q ↔ (((hk h a).1 = 1 ∧ 0 ≤ x ∧ x < ((hk h a).2 : Int)) ∧ WP 135 0 57 L (hm h a x.toNat :: S) h Q) := wp_if rfl rfl rfl
theorem s135_57 : WP 135 0 57 L (vI y :: vI x :: S) h Q ↔ zif (x < y) (WP 135 0 60 L S h Q) (WP 135 0 106 L S h Q) := wp_bN zc_lt rfl rfl rfl
theorem s135_60 : WP 135 0 60 [vA r, a1, a2] S h Q ↔ WP 135 0 61 [vA r, a1, a2] (vA r :: S) h Q := wp_aload rfl rfl
theorem s135_61 : WP 135 0 61 L (vA (some a) :: S) h Q ↔ (zhas 58 (hk h a) = true ∧ WP 135 0 64 L (hm h a 58 :: S) h Q) := wp_if rfl rfl rfl
theorem s135_64 : WP 135 0 64 L S h Q ↔ WP 135 0 65 L (vI 0 :: S) h Q := wp_pl rfl rfl rfl
theorem s135_65 : WP 135 0 65 [a0, a1, vI x] S h Q ↔ WP 135 0 66 [a0, a1, vI x] (vI x :: S) h Q := wp_iload rfl rfl
theorem s135_66 : WP 135 0 66 L (vI y :: vI x :: vA (some a) :: S) h Q ↔ (((hk h a).1 = 1 ∧ (0 ≤ x ∧ x < ((hk h a).2 : Int)) ∧ zNC ≤ a) ∧ WP 135 0 67 L S (hput h a x.toNat (vI y)) Q) := wp_if rfl rfl rfl
theorem s135_67 : WP 135 0 67 [a0, vI x, a2] S h Q ↔ WP 135 0 68 [a0, vI x, a2] (vI x :: S) h Q := wp_iload rfl rfl
theorem s135_68 : WP 135 0 68 [vA r, a1, a2] S h Q ↔ WP 135 0 69 [vA r, a1, a2] (vA r :: S) h Q := wp_aload rfl rfl
theorem s135_69 : WP 135 0 69 [vA r, a1, a2] S h Q ↔ WP 135 0 70 [vA r, a1, a2] (vA r :: S) h Q := wp_aload rfl rfl
theorem s135_70 : WP 135 0 70 L (vA (some a) :: S) h Q ↔ (zhas 58 (hk h a) = true ∧ WP 135 0 73 L (hm h a 58 :: S) h Q) := wp_if rfl rfl rfl
theorem s135_73 : WP 135 0 73 [vA r, a1, a2] S h Q ↔ WP 135 0 74 [vA r, a1, a2] (vA r :: S) h Q := wp_aload rfl rfl
theorem s135_74 : WP 135 0 74 L (vA (some a) :: S) h Q ↔ (zhas 59 (hk h a) = true ∧ WP 135 0 77 L (hm h a 59 :: S) h Q) := wp_if rfl rfl rfl
theorem s135_77 : WP 135 0 77 L S h Q ↔ WP 135 0 78 L (vI 1 :: S) h Q := wp_pl rfl rfl rfl
theorem s135_78 : WP 135 0 78 L (vI y :: vI x :: S) h Q ↔ WP 135 0 79 L (vI (wr (x + y)) :: S) h Q := wp_pl rfl rfl rfl
theorem s135_79 : WP 135 0 79 L (vI x1 :: vA r0 :: vA (some a) :: S) h Q ↔ ((hk h a).1 = 110 ∧ (zw S ≤ 8 ∧ WP 169 0 0 [vA (some a), vA r0, vI x1, vJ] [] h (zret 135 0 79 82 L S Q))) := wp_V1 (c := 110) rfl rfl (fun _ => rfl) rfl rfl (zcan_of rfl rfl) rfl rfl rfl
theorem s135_82 : WP 135 0 82 [vA r, a1, a2] S h Q ↔ WP 135 0 83 [vA r, a1, a2] (vA r :: S) h Q := wp_aload rfl rfl
theorem s135_83 : WP 135 0 83 L (vA (some a) :: S) h Q ↔ (zhas 59 (hk h a) = true ∧ WP 135 0 86 L (hm h a 59 :: S) h Q) := wp_if rfl rfl rfl
theorem s135_86 : WP 135 0 86 L S h Q ↔ WP 135 0 87 L (vI 1 :: S) h Q := wp_pl rfl rfl rfl
theorem s135_87 : WP 135 0 87 L (vI y :: vI x :: S) h Q ↔ WP 135 0 88 L (vI (wr (x + y)) :: S) h Q := wp_pl rfl rfl rfl
theorem s135_88 : WP 135 0 88 L (vI y :: vI x :: S) h Q ↔ zif (x = y) (WP 135 0 91 L S h Q) (WP 135 0 97 L S h Q) := wp_bN zc_eq rfl rfl rfl
theorem s135_91 : WP 135 0 91 L S h Q ↔ WP 135 0 92 L (vI 1 :: S) h Q := wp_pl rfl rfl rfl
theorem s135_92 : WP 135 0 92 [a0, a1, vI x] S h Q ↔ WP 135 0 93 [a0, a1, vI x] (vI x :: S) h Q := wp_iload rfl rfl
theorem s135_93 : WP 135 0 93 L (vI y :: vI x :: S) h Q ↔ WP 135 0 94 L (vI (zshl x y) :: S) h Q := wp_pl rfl rfl rfl
theorem s135_94 : WP 135 0 94 L S h Q ↔ WP 135 0 98 L S h Q := wp_pl rfl rfl rfl
theorem s135_97 : WP 135 0 97 L S h Q ↔ WP 135 0 98 L (vI 0 :: S) h Q := wp_pl rfl rfl rfl
theorem s135_98 : WP 135 0 98 L (vI y :: vI x :: S) h Q ↔ WP 135 0 99 L (vI (zor x y) :: S) h Q := wp_pl rfl rfl rfl
theorem s135_99 : WP 135 0 99 [a0, a1, a2] (vI x :: S) h Q ↔ WP 135 0 100 [a0, vI x, a2] S h Q := wp_istore rfl rfl rfl
theorem s135_100 : WP 135 0 100 [a0, a1, vI x] S h Q ↔ WP 135 0 103 [a0, a1, vI (wr (x + 1))] S h Q := wp_iinc rfl rfl rfl
theorem s135_103 : WP 135 0 103 L S h Q ↔ WP 135 0 50 L S h Q := wp_pl rfl rfl rfl
theorem s135_106 : WP 135 0 106 [a0, vI x, a2] S h Q ↔ WP 135 0 107 [a0, vI x, a2] (vI x :: S) h Q := wp_iload rfl rfl
theorem s135_107 : WP 135 0 107 L [vI x] h Q ↔ Q (.inl (some (vI x))) h := wp_iret0 rfl rfl
/-! RepeatFreeModel.areAlike(III)Z -/
theorem s136_0 : WP 136 0 0 L S h Q ↔ WP 136 0 1 L (vI 0 :: S) h Q := wp_pl rfl rfl rfl
theorem s136_1 : WP 136 0 1 [a0, a1, a2, a3, a4] (vI x :: S) h Q ↔ WP 136 0 3 [a0, a1, a2, a3, vI x] S h Q := wp_istore rfl rfl rfl
theorem s136_3 : WP 136 0 3 [a0, a1, a2, a3, vI x] S h Q ↔ WP 136 0 5 [a0, a1, a2, a3, vI x] (vI x :: S) h Q := wp_iload rfl rfl
theorem s136_5 : WP 136 0 5 [a0, a1, a2, vI x, a4] S h Q ↔ WP 136 0 6 [a0, a1, a2, vI x, a4] (vI x :: S) h Q := wp_iload rfl rfl
theorem s136_6 : WP 136 0 6 L (vI y :: vI x :: S) h Q ↔ zif (x < y) (WP 136 0 9 L S h Q) (WP 136 0 38 L S h Q) := wp_bN zc_lt rfl rfl rfl
theorem s136_9 : WP 136 0 9 [vA r, a1, a2, a3, a4] S h Q ↔ WP 136 0 10 [vA r, a1, a2, a3, a4] (vA r :: S) h Q := wp_aload rfl rfl
theorem s136_10 : WP 136 0 10 L (vA (some a) :: S) h Q ↔ (zhas 57 (hk h a) = true ∧ WP 136 0 13 L (hm h a 57 :: S) h Q) := wp_if rfl rfl rfl
theorem s136_13 : WP 136 0 13 [a0, vI x, a2, a3, a4] S h Q ↔ WP 136 0 14 [a0, vI x, a2, a3, a4] (vI x :: S) h Q := wp_iload rfl rfl
theorem s136_14 : WP 136 0 14 [a0, a1, a2, a3, vI x] S h Q ↔ WP 136 0 16 [a0, a1, a2, a3, vI x] (vI x :: S) h Q := wp_iload rfl rfl
theorem s136_16 : WP 136 0 16 L (vI y :: vI x :: S) h Q ↔ WP 136 0 17 L (vI (wr (x + y)) :: S) h Q := wp_pl rfl rfl rfl
theorem s136_17 : WP 136 0 17 L (vI x :: vA (some a) :: S) h Q ↔ (((hk h a).1 = 1 ∧ 0 ≤ x ∧ x < ((hk h a).2 : Int)) ∧ WP 136 0 18 L (hm h a x.toNat :: S) h Q) := wp_if rfl rfl rfl
theorem s136_18 : WP 136 0 18 [vA r, a1, a2, a3, a4] S h Q ↔ WP 136 0 19 [vA r, a1, a2, a3, a4] (vA r :: S) h Q := wp_aload rfl rfl
theorem s136_19 : WP 136 0 19 L (vA (some a) :: S) h Q ↔ (zhas 57 (hk h a) = true ∧ WP 136 0 22 L (hm h a 57 :: S) h Q) := wp_if rfl rfl rfl
theorem s136_22 : WP 136 0 22 [a0, a1, vI x, a3, a4] S h Q ↔ WP 136 0 23 [a0, a1, vI x, a3, a4] (vI x :: S) h Q := wp_iload rfl rfl
theorem s136_23 : WP 136 0 23 [a0, a1, a2, a3, vI x] S h Q ↔ WP 136 0 25 [a0, a1, a2, a3, vI x] (vI x :: S) h Q := wp_iload rfl rfl
theorem s136_25 : WP 136 0 25 L (vI y :: vI x :: S) h Q ↔ WP 136 0 26 L (vI (wr (x + y)) :: S) h Q := wp_pl rfl rfl rfl
theorem s136_26 : WP 136 0 26 L (vI x :: vA (some a) :: S) h Q ↔ (((hk h a).1 = 1 ∧ 0 ≤ x ∧ x < ((hk h a).2 : Int)) ∧ WP 136 0 27 L (hm h a x.toNat :: S) h Q) := wp_if rfl rfl rfl
theorem s136_27 : WP 136 0 27 L (vI y :: vI x :: S) h Q ↔ zif (x = y) (WP 136 0 32 L S h Q) (WP 136 0 30 L S h Q) := wp_bE zc_eq rfl rfl rfl
theorem s136_30 : WP 136 0 30 L S h Q ↔ WP 136 0 31 L (vI 0 :: S) h Q := wp_pl rfl rfl rfl
theorem s136_31 : WP 136 0 31 L [vI x] h Q ↔ ((x = 0 ∨ x = 1) ∧ Q (.inl (some (vI x))) h) := wp_iret rfl rfl
theorem s136_32 : WP 136 0 32 [a0, a1, a2, a3, vI x] S h Q ↔ WP 136 0 35 [a0, a1, a2, a3, vI (wr (x + 1))] S h Q := wp_iinc rfl rfl rfl
theorem s136_35 : WP 136 0 35 L S h Q ↔ WP 136 0 3 L S h Q := wp_pl rfl rfl rfl
theorem s136_38 : WP 136 0 38 L S h Q ↔ WP 136 0 39 L (vI 1 :: S) h Q := wp_pl rfl rfl rfl
theorem s136_39 : WP 136 0 39 L [vI x] h Q ↔ ((x = 0 ∨ x = 1) ∧ Q (.inl (some (vI x))) h) := wp_iret rfl rfl
/-! RepeatFreeModel.asksSign(I)V -/
theorem s137_0 : WP 137 0 0 [vA r, a1] S h Q ↔ WP 137 0 1 [vA r, a1] (vA r :: S) h Q := wp_aload rfl rfl
theorem s137_1 : WP 137 0 1 L (vA (some a) :: S) h Q ↔ ((hk h a).1 = 110 ∧ (zw S ≤ 8 ∧ WP 145 0 0 [vA (some a)] [] h (zret 137 0 1 4 L S Q))) := wp_V1 (c := 110) rfl rfl (fun _ => rfl) rfl rfl (zcan_of rfl rfl) rfl rfl rfl
theorem s137_4 : WP 137 0 4 [vA r, a1] S h Q ↔ WP 137 0 5 [vA r, a1] (vA r :: S) h Q := wp_aload rfl rfl
theorem s137_5 : WP 137 0 5 L (vA (some a) :: S) h Q ↔ ((hk h a).1 = 110 ∧ (zw S ≤ 8 ∧ WP 177 0 0 [vA (some a)] [] h (zret 137 0 5 8 L S Q))) := wp_V1 (c := 110) rfl rfl (fun _ => rfl) rfl rfl (zcan_of rfl rfl) rfl rfl rfl
theorem s137_8 : WP 137 0 8 L (vI x :: S) h Q ↔ zif (x = 0) (WP 137 0 12 L S h Q) (WP 137 0 11 L S h Q) := wp_bE zc_eq rfl rfl rfl
theorem s137_11 : WP 137 0 11 L [] h Q ↔ Q (.inl none) h := wp_ret rfl
theorem s137_12 : WP 137 0 12 [vA r, a1] S h Q ↔ WP 137 0 13 [vA r, a1] (vA r :: S) h Q := wp_aload rfl rfl
theorem s137_13 : WP 137 0 13 [a0, vI x] S h Q ↔ WP 137 0 14 [a0, vI x] (vI x :: S) h Q := wp_iload rfl rfl
theorem s137_14 : WP 137 0 14 [a0, vI x] S h Q ↔ WP 137 0 15 [a0, vI x] (vI x :: S) h Q := wp_iload rfl rfl
theorem s137_15 : WP 137 0 15 L (vI x1 :: vI x0 :: vA (some a) :: S) h Q ↔ ((hk h a).1 = 110 ∧ (zw S ≤ 8 ∧ WP 186 0 0 [vA (some a), vI x0, vI x1] [] h (zret 137 0 15 18 L S Q))) := wp_V1 (c := 110) rfl rfl (fun _ => rfl) rfl rfl (zcan_of rfl rfl) rfl rfl rfl
theorem s137_18 : WP 137 0 18 L (vI x :: S) h Q ↔ zif (x = 0) (WP 137 0 34 L S h Q) (WP 137 0 21 L S h Q) := wp_bE zc_eq rfl rfl rfl
theorem s137_21 : WP 137 0 21 [vA r, a1] S h Q ↔ WP 137 0 22 [vA r, a1] (vA r :: S) h Q := wp_aload rfl rfl
theorem s137_22 : WP 137 0 22 L (vA r :: S) h Q ↔ WP 137 0 23 L (vA r :: vA r :: S) h Q := wp_pl rfl rfl rfl
theorem s137_22i : WP 137 0 22 L (vI x :: S) h Q ↔ WP 137 0 23 L (vI x :: vI x :: S) h Q := wp_pl rfl rfl rfl
theorem s137_23 : WP 137 0 23 L (vA (some a) :: S) h Q ↔ (zhas 49 (hk h a) = true ∧ WP 137 0 26 L (hm h a 49 :: S) h Q) := wp_if rfl rfl rfl
theorem s137_26 : WP 137 0 26 L S h Q ↔ WP 137 0 27 L (vI 1 :: S) h Q := wp_pl rfl rfl rfl
theorem s137_27 : WP 137 0 27 L (vI y :: vI x :: S) h Q ↔ WP 137 0 28 L (vI (wr (x + y)) :: S) h Q := wp_pl rfl rfl rfl
theorem s137_28 : WP 137 0 28 L (vI x :: vA (some a) :: S) h Q ↔ ((zNC ≤ a ∧ zhas 49 (hk h a) = true) ∧ WP 137 0 31 L S (hput h a 49 (vI x)) Q) := wp_put0 rfl rfl
theorem s137_31 : WP 137 0 31 L S h Q ↔ WP 137 0 38 L S h Q := wp_pl rfl rfl rfl
theorem s137_34 : WP 137 0 34 [vA r, a1] S h Q ↔ WP 137 0 35 [vA r, a1] (vA r :: S) h Q := wp_aload rfl rfl
theorem s137_35 : WP 137 0 35 L (vA (some a) :: S) h Q ↔ ((hk h a).1 = 110 ∧ (zw S ≤ 8 ∧ WP 161 0 0 [vA (some a)] [] h (zret 137 0 35 38 L S Q))) := wp_V1 (c := 110) rfl rfl (fun _ => rfl) rfl rfl (zcan_of rfl rfl) rfl rfl rfl
theorem s137_38 : WP 137 0 38 L [] h Q ↔ Q (.inl none) h := wp_ret rfl
/-! RepeatFreeModel.asksWord(Ljava/lang/String;)V -/
theorem s138_0 : WP 138 0 0 [vA r, a1] S h Q ↔ WP 138 0 1 [vA r, a1] (vA r :: S) h Q := wp_aload rfl rfl
theorem s138_1 : WP 138 0 1 L (vA (some a) :: S) h Q ↔ ((hk h a).1 = 110 ∧ (zw S ≤ 8 ∧ WP 177 0 0 [vA (some a)] [] h (zret 138 0 1 4 L S Q))) := wp_V1 (c := 110) rfl rfl (fun _ => rfl) rfl rfl (zcan_of rfl rfl) rfl rfl rfl
theorem s138_4 : WP 138 0 4 L (vI x :: S) h Q ↔ zif (x = 0) (WP 138 0 7 L S h Q) (WP 138 0 19 L S h Q) := wp_bN zc_eq rfl rfl rfl
theorem s138_7 : WP 138 0 7 [vA r, a1] S h Q ↔ WP 138 0 8 [vA r, a1] (vA r :: S) h Q := wp_aload rfl rfl
theorem s138_8 : WP 138 0 8 [a0, vA r] S h Q ↔ WP 138 0 9 [a0, vA r] (vA r :: S) h Q := wp_aload rfl rfl
theorem s138_9 : WP 138 0 9 L (vA r0 :: vA (some a) :: S) h Q ↔ ((hk h a).1 = 110 ∧ (zw S ≤ 8 ∧ WP 246 0 0 [vA (some a), vA r0, vJ] [] h (zret 138 0 9 12 L S Q))) := wp_V1 (c := 110) rfl rfl (fun _ => rfl) rfl rfl (zcan_of rfl rfl) rfl rfl rfl
theorem s138_12 : WP 138 0 12 L (vI x :: S) h Q ↔ zif (x = 0) (WP 138 0 15 L S h Q) (WP 138 0 19 L S h Q) := wp_bN zc_eq rfl rfl rfl
theorem s138_15 : WP 138 0 15 [vA r, a1] S h Q ↔ WP 138 0 16 [vA r, a1] (vA r :: S) h Q := wp_aload rfl rfl
theorem s138_16 : WP 138 0 16 L (vA (some a) :: S) h Q ↔ ((hk h a).1 = 110 ∧ (zw S ≤ 8 ∧ WP 161 0 0 [vA (some a)] [] h (zret 138 0 16 19 L S Q))) := wp_V1 (c := 110) rfl rfl (fun _ => rfl) rfl rfl (zcan_of rfl rfl) rfl rfl rfl
theorem s138_19 : WP 138 0 19 L [] h Q ↔ Q (.inl none) h := wp_ret rfl
/-! RepeatFreeModel.at(III)I -/
theorem s139_0 : WP 139 0 0 L S h Q ↔ WP 139 0 1 L (vI 4 :: S) h Q := wp_pl rfl rfl rfl
theorem s139_1 : WP 139 0 1 L S h Q ↔ WP 139 0 2 L (vI 4 :: S) h Q := wp_pl rfl rfl rfl
theorem s139_2 : WP 139 0 2 [vI x, a1, a2] S h Q ↔ WP 139 0 3 [vI x, a1, a2] (vI x :: S) h Q := wp_iload rfl rfl
theorem s139_3 : WP 139 0 3 L (vI y :: vI x :: S) h Q ↔ WP 139 0 4 L (vI (wr (x * y)) :: S) h Q := wp_pl rfl rfl rfl
theorem s139_4 : WP 139 0 4 [a0, vI x, a2] S h Q ↔ WP 139 0 5 [a0, vI x, a2] (vI x :: S) h Q := wp_iload rfl rfl
theorem s139_5 : WP 139 0 5 L (vI y :: vI x :: S) h Q ↔ WP 139 0 6 L (vI (wr (x + y)) :: S) h Q := wp_pl rfl rfl rfl
theorem s139_6 : WP 139 0 6 L (vI y :: vI x :: S) h Q ↔ WP 139 0 7 L (vI (wr (x * y)) :: S) h Q := wp_pl rfl rfl rfl
theorem s139_7 : WP 139 0 7 [a0, a1, vI x] S h Q ↔ WP 139 0 8 [a0, a1, vI x] (vI x :: S) h Q := wp_iload rfl rfl
theorem s139_8 : WP 139 0 8 L (vI y :: vI x :: S) h Q ↔ WP 139 0 9 L (vI (wr (x + y)) :: S) h Q := wp_pl rfl rfl rfl
theorem s139_9 : WP 139 0 9 L [vI x] h Q ↔ Q (.inl (some (vI x))) h := wp_iret0 rfl rfl
/-! RepeatFreeModel.avoid(IZ)Z -/
theorem s140_0 : WP 140 0 0 [vA r, a1, a2, a3] S h Q ↔ WP 140 0 1 [vA r, a1, a2, a3] (vA r :: S) h Q := wp_aload rfl rfl
theorem s140_1 : WP 140 0 1 L S h Q ↔ WP 140 0 2 L (vI 0 :: S) h Q := wp_pl rfl rfl rfl
theorem s140_2 : WP 140 0 2 L (vI x :: vA (some a) :: S) h Q ↔ ((zNC ≤ a ∧ zhas 45 (hk h a) = true) ∧ WP 140 0 5 L S (hput h a 45 (vI x)) Q) := wp_put0 rfl rfl
theorem s140_5 : WP 140 0 5 [vA r, a1, a2, a3] S h Q ↔ WP 140 0 6 [vA r, a1, a2, a3] (vA r :: S) h Q := wp_aload rfl rfl
theorem s140_6 : WP 140 0 6 [a0, vI x, a2, a3] S h Q ↔ WP 140 0 7 [a0, vI x, a2, a3] (vI x :: S) h Q := wp_iload rfl rfl
theorem s140_7 : WP 140 0 7 L (vI x0 :: vA (some a) :: S) h Q ↔ ((hk h a).1 = 110 ∧ (zw S ≤ 8 ∧ WP 224 0 0 [vA (some a), vI x0] [] h (zret 140 0 7 10 L S Q))) := wp_V1 (c := 110) rfl rfl (fun _ => rfl) rfl rfl (zcan_of rfl rfl) rfl rfl rfl
theorem s140_10 : WP 140 0 10 L (vI x :: S) h Q ↔ zif (x = 0) (WP 140 0 15 L S h Q) (WP 140 0 13 L S h Q) := wp_bE zc_eq rfl rfl rfl
theorem s140_13 : WP 140 0 13 L S h Q ↔ WP 140 0 14 L (vI 0 :: S) h Q := wp_pl rfl rfl rfl
theorem s140_14 : WP 140 0 14 L [vI x] h Q ↔ ((x = 0 ∨ x = 1) ∧ Q (.inl (some (vI x))) h) := wp_iret rfl rfl
theorem s140_15 : WP 140 0 15 [vA r, a1, a2, a3] S h Q ↔ WP 140 0 16 [vA r, a1, a2, a3] (vA r :: S) h Q := wp_aload rfl rfl
theorem s140_16 : WP 140 0 16 L (vA (some a) :: S) h Q ↔ (zhas 54 (hk h a) = true ∧ WP 140 0 19 L (hm h a 54 :: S) h Q) := wp_if rfl rfl rfl
theorem s140_19 : WP 140 0 19 L S h Q ↔ WP 140 0 22 L (vI 194 :: S) h Q := wp_pl rfl rfl rfl
theorem s140_22 : WP 140 0 22 [a0, vI x, a2, a3] S h Q ↔ WP 140 0 23 [a0, vI x, a2, a3] (vI x :: S) h Q := wp_iload rfl rfl
theorem s140_23 : WP 140 0 23 L (vI y :: vI x :: S) h Q ↔ WP 140 0 24 L (vI (wr (x + y)) :: S) h Q := wp_pl rfl rfl rfl
theorem s140_24 : WP 140 0 24 L (vI x :: vA (some a) :: S) h Q ↔ (((hk h a).1 = 1 ∧ 0 ≤ x ∧ x < ((hk h a).2 : Int)) ∧ WP 140 0 25 L (hm h a x.toNat :: S) h Q) := wp_if rfl rfl rfl
theorem s140_25 : WP 140 0 25 L S h Q ↔ WP 140 0 26 L (vI 1 :: S) h Q := wp_pl rfl rfl rfl
theorem s140_26 : WP 140 0 26 L (vI y :: vI x :: S) h Q ↔ zif (x = y) (WP 140 0 29 L S h Q) (WP 140 0 33 L S h Q) := wp_bN zc_eq rfl rfl rfl
theorem s140_29 : WP 140 0 29 L S h Q ↔ WP 140 0 30 L (vI 1 :: S) h Q := wp_pl rfl rfl rfl
theorem s140_30 : WP 140 0 30 L S h Q ↔ WP 140 0 34 L S h Q := wp_pl rfl rfl rfl
theorem s140_33 : WP 140 0 33 L S h Q ↔ WP 140 0 34 L (vI 0 :: S) h Q := wp_pl rfl rfl rfl
theorem s140_34 : WP 140 0 34 [a0, a1, a2, a3] (vI x :: S) h Q ↔ WP 140 0 35 [a0, a1, a2, vI x] S h Q := wp_istore rfl rfl rfl
theorem s140_35 : WP 140 0 35 [vA r, a1, a2, a3] S h Q ↔ WP 140 0 36 [vA r, a1, a2, a3] (vA r :: S) h Q := wp_aload rfl rfl
theorem s140_36 : WP 140 0 36 L (vA (some a) :: S) h Q ↔ (zhas 54 (hk h a) = true ∧ WP 140 0 39 L (hm h a 54 :: S) h Q) := wp_if rfl rfl rfl
theorem s140_39 : WP 140 0 39 L S h Q ↔ WP 140 0 42 L (vI 194 :: S) h Q := wp_pl rfl rfl rfl
theorem s140_42 : WP 140 0 42 [a0, vI x, a2, a3] S h Q ↔ WP 140 0 43 [a0, vI x, a2, a3] (vI x :: S) h Q := wp_iload rfl rfl
theorem s140_43 : WP 140 0 43 L (vI y :: vI x :: S) h Q ↔ WP 140 0 44 L (vI (wr (x + y)) :: S) h Q := wp_pl rfl rfl rfl
theorem s140_44 : WP 140 0 44 [a0, a1, vI x, a3] S h Q ↔ WP 140 0 45 [a0, a1, vI x, a3] (vI x :: S) h Q := wp_iload rfl rfl
theorem s140_45 : WP 140 0 45 L (vI x :: S) h Q ↔ zif (x = 0) (WP 140 0 52 L S h Q) (WP 140 0 48 L S h Q) := wp_bE zc_eq rfl rfl rfl
theorem s140_48 : WP 140 0 48 L S h Q ↔ WP 140 0 49 L (vI 1 :: S) h Q := wp_pl rfl rfl rfl
theorem s140_49 : WP 140 0 49 L S h Q ↔ WP 140 0 53 L S h Q := wp_pl rfl rfl rfl
theorem s140_52 : WP 140 0 52 L S h Q ↔ WP 140 0 53 L (vI 0 :: S) h Q := wp_pl rfl rfl rfl
theorem s140_53 : WP 140 0 53 L (vI y :: vI x :: vA (some a) :: S) h Q ↔ (((hk h a).1 = 1 ∧ (0 ≤ x ∧ x < ((hk h a).2 : Int)) ∧ zNC ≤ a) ∧ WP 140 0 54 L S (hput h a x.toNat (vI y)) Q) := wp_if rfl rfl rfl
theorem s140_54 : WP 140 0 54 [a0, a1, a2, vI x] S h Q ↔ WP 140 0 55 [a0, a1, a2, vI x] (vI x :: S) h Q := wp_iload rfl rfl
theorem s140_55 : WP 140 0 55 L [vI x] h Q ↔ ((x = 0 ∨ x = 1) ∧ Q (.inl (some (vI x))) h) := wp_iret rfl rfl
/-! RepeatFreeModel.avoidLine()V -/
theorem s141_0 : WP 141 0 0 [vA r, a1] S h Q ↔ WP 141 0 1 [vA r, a1] (vA r :: S) h Q := wp_aload rfl rfl
theorem s141_1 : WP 141 0 1 L S h Q ↔ WP 141 0 3 L (vA (some 18) :: S) h Q := wp_pl rfl rfl rfl
theorem s141_3 : WP 141 0 3 L (vA r0 :: vA (some a) :: S) h Q ↔ ((hk h a).1 = 110 ∧ (zw S ≤ 8 ∧ WP 138 0 0 [vA (some a), vA r0] [] h (zret 141 0 3 6 L S Q))) := wp_V1 (c := 110) rfl rfl (fun _ => rfl) rfl rfl (zcan_of rfl rfl) rfl rfl rfl
theorem s141_6 : WP 141 0 6 [vA r, a1] S h Q ↔ WP 141 0 7 [vA r, a1] (vA r :: S) h Q := wp_aload rfl rfl
theorem s141_7 : WP 141 0 7 L (vA (some a) :: S) h Q ↔ ((hk h a).1 = 110 ∧ (zw S ≤ 8 ∧ WP 145 0 0 [vA (some a)] [] h (zret 141 0 7 10 L S Q))) := wp_V1 (c := 110) rfl rfl (fun _ => rfl) rfl rfl (zcan_of rfl rfl) rfl rfl rfl
theorem s141_10 : WP 141 0 10 [vA r, a1] S h Q ↔ WP 141 0 11 [vA r, a1] (vA r :: S) h Q := wp_aload rfl rfl
theorem s141_11 : WP 141 0 11 L (vA (some a) :: S) h Q ↔ ((hk h a).1 = 110 ∧ (zw S ≤ 8 ∧ WP 177 0 0 [vA (some a)] [] h (zret 141 0 11 14 L S Q))) := wp_V1 (c := 110) rfl rfl (fun _ => rfl) rfl rfl (zcan_of rfl rfl) rfl rfl rfl
theorem s141_14 : WP 141 0 14 L (vI x :: S) h Q ↔ zif (x = 0) (WP 141 0 18 L S h Q) (WP 141 0 17 L S h Q) := wp_bE zc_eq rfl rfl rfl
theorem s141_17 : WP 141 0 17 L [] h Q ↔ Q (.inl none) h := wp_ret rfl
theorem s141_18 : WP 141 0 18 [vA r, a1] S h Q ↔ WP 141 0 19 [vA r, a1] (vA r :: S) h Q := wp_aload rfl rfl
theorem s141_19 : WP 141 0 19 L (vA (some a) :: S) h Q ↔ ((hk h a).1 = 110 ∧ (zw S ≤ 8 ∧ WP 190 0 0 [vA (some a), vJ] [] h (zret 141 0 19 22 L S Q))) := wp_V1 (c := 110) rfl rfl (fun _ => rfl) rfl rfl (zcan_of rfl rfl) rfl rfl rfl
theorem s141_22 : WP 141 0 22 L (vI x :: S) h Q ↔ zif (x = 0) (WP 141 0 39 L S h Q) (WP 141 0 25 L S h Q) := wp_bE zc_eq rfl rfl rfl
theorem s141_25 : WP 141 0 25 [vA r, a1] S h Q ↔ WP 141 0 26 [vA r, a1] (vA r :: S) h Q := wp_aload rfl rfl
theorem s141_26 : WP 141 0 26 L S h Q ↔ WP 141 0 27 L (vI 4 :: S) h Q := wp_pl rfl rfl rfl
theorem s141_27 : WP 141 0 27 [vA r, a1] S h Q ↔ WP 141 0 28 [vA r, a1] (vA r :: S) h Q := wp_aload rfl rfl
theorem s141_28 : WP 141 0 28 L (vA (some a) :: S) h Q ↔ (zhas 55 (hk h a) = true ∧ WP 141 0 31 L (hm h a 55 :: S) h Q) := wp_if rfl rfl rfl
theorem s141_31 : WP 141 0 31 L S h Q ↔ WP 141 0 32 L (vI 5 :: S) h Q := wp_pl rfl rfl rfl
theorem s141_32 : WP 141 0 32 L (vI x :: vA (some a) :: S) h Q ↔ (((hk h a).1 = 1 ∧ 0 ≤ x ∧ x < ((hk h a).2 : Int)) ∧ WP 141 0 33 L (hm h a x.toNat :: S) h Q) := wp_if rfl rfl rfl
theorem s141_33 : WP 141 0 33 L (vI x1 :: vI x0 :: vA (some a) :: S) h Q ↔ ((hk h a).1 = 110 ∧ (zw S ≤ 8 ∧ WP 219 0 0 [vA (some a), vI x0, vI x1, vJ, vJ, vJ, vJ] [] h (zret 141 0 33 36 L S Q))) := wp_V1 (c := 110) rfl rfl (fun _ => rfl) rfl rfl (zcan_of rfl rfl) rfl rfl rfl
theorem s141_36 : WP 141 0 36 L S h Q ↔ WP 141 0 40 L S h Q := wp_pl rfl rfl rfl
theorem s141_39 : WP 141 0 39 L S h Q ↔ WP 141 0 40 L (vI (-1) :: S) h Q := wp_pl rfl rfl rfl
theorem s141_40 : WP 141 0 40 [a0, a1] (vI x :: S) h Q ↔ WP 141 0 41 [a0, vI x] S h Q := wp_istore rfl rfl rfl
theorem s141_41 : WP 141 0 41 [a0, vI x] S h Q ↔ WP 141 0 42 [a0, vI x] (vI x :: S) h Q := wp_iload rfl rfl
theorem s141_42 : WP 141 0 42 L S h Q ↔ WP 141 0 43 L (vI (-1) :: S) h Q := wp_pl rfl rfl rfl
theorem s141_43 : WP 141 0 43 L (vI y :: vI x :: S) h Q ↔ zif (x = y) (WP 141 0 60 L S h Q) (WP 141 0 46 L S h Q) := wp_bE zc_eq rfl rfl rfl
theorem s141_46 : WP 141 0 46 [vA r, a1] S h Q ↔ WP 141 0 47 [vA r, a1] (vA r :: S) h Q := wp_aload rfl rfl
theorem s141_47 : WP 141 0 47 L (vA (some a) :: S) h Q ↔ (zhas 55 (hk h a) = true ∧ WP 141 0 50 L (hm h a 55 :: S) h Q) := wp_if rfl rfl rfl
theorem s141_50 : WP 141 0 50 L S h Q ↔ WP 141 0 53 L (vI 194 :: S) h Q := wp_pl rfl rfl rfl
theorem s141_53 : WP 141 0 53 [a0, vI x] S h Q ↔ WP 141 0 54 [a0, vI x] (vI x :: S) h Q := wp_iload rfl rfl
theorem s141_54 : WP 141 0 54 L (vI y :: vI x :: S) h Q ↔ WP 141 0 55 L (vI (wr (x + y)) :: S) h Q := wp_pl rfl rfl rfl
theorem s141_55 : WP 141 0 55 L (vI x :: vA (some a) :: S) h Q ↔ (((hk h a).1 = 1 ∧ 0 ≤ x ∧ x < ((hk h a).2 : Int)) ∧ WP 141 0 56 L (hm h a x.toNat :: S) h Q) := wp_if rfl rfl rfl
theorem s141_56 : WP 141 0 56 L S h Q ↔ WP 141 0 57 L (vI 1 :: S) h Q := wp_pl rfl rfl rfl
theorem s141_57 : WP 141 0 57 L (vI y :: vI x :: S) h Q ↔ zif (x = y) (WP 141 0 60 L S h Q) (WP 141 0 65 L S h Q) := wp_bN zc_eq rfl rfl rfl
theorem s141_60 : WP 141 0 60 [vA r, a1] S h Q ↔ WP 141 0 61 [vA r, a1] (vA r :: S) h Q := wp_aload rfl rfl
theorem s141_61 : WP 141 0 61 L (vA (some a) :: S) h Q ↔ ((hk h a).1 = 110 ∧ (zw S ≤ 8 ∧ WP 161 0 0 [vA (some a)] [] h (zret 141 0 61 64 L S Q))) := wp_V1 (c := 110) rfl rfl (fun _ => rfl) rfl rfl (zcan_of rfl rfl) rfl rfl rfl
theorem s141_64 : WP 141 0 64 L [] h Q ↔ Q (.inl none) h := wp_ret rfl
theorem s141_65 : WP 141 0 65 [vA r, a1] S h Q ↔ WP 141 0 66 [vA r, a1] (vA r :: S) h Q := wp_aload rfl rfl
theorem s141_66 : WP 141 0 66 L (vA r :: S) h Q ↔ WP 141 0 67 L (vA r :: vA r :: S) h Q := wp_pl rfl rfl rfl
theorem s141_66i : WP 141 0 66 L (vI x :: S) h Q ↔ WP 141 0 67 L (vI x :: vI x :: S) h Q := wp_pl rfl rfl rfl
theorem s141_67 : WP 141 0 67 L (vA (some a) :: S) h Q ↔ (zhas 49 (hk h a) = true ∧ WP 141 0 70 L (hm h a 49 :: S) h Q) := wp_if rfl rfl rfl
theorem s141_70 : WP 141 0 70 [vA r, a1] S h Q ↔ WP 141 0 71 [vA r, a1] (vA r :: S) h Q := wp_aload rfl rfl
theorem s141_71 : WP 141 0 71 L (vA (some a) :: S) h Q ↔ ((hk h a).1 = 110 ∧ (zw S ≤ 8 ∧ WP 254 0 0 [vA (some a), vJ] [] h (zret 141 0 71 74 L S Q))) := wp_V1 (c := 110) rfl rfl (fun _ => rfl) rfl rfl (zcan_of rfl rfl) rfl rfl rfl
theorem s141_74 : WP 141 0 74 L (vI y :: vI x :: S) h Q ↔ WP 141 0 75 L (vI (wr (x + y)) :: S) h Q := wp_pl rfl rfl rfl
theorem s141_75 : WP 141 0 75 L (vI x :: vA (some a) :: S) h Q ↔ ((zNC ≤ a ∧ zhas 49 (hk h a) = true) ∧ WP 141 0 78 L S (hput h a 49 (vI x)) Q) := wp_put0 rfl rfl
theorem s141_78 : WP 141 0 78 [vA r, a1] S h Q ↔ WP 141 0 79 [vA r, a1] (vA r :: S) h Q := wp_aload rfl rfl
theorem s141_79 : WP 141 0 79 L (vA (some a) :: S) h Q ↔ (zhas 55 (hk h a) = true ∧ WP 141 0 82 L (hm h a 55 :: S) h Q) := wp_if rfl rfl rfl
theorem s141_82 : WP 141 0 82 L S h Q ↔ WP 141 0 85 L (vI 194 :: S) h Q := wp_pl rfl rfl rfl
theorem s141_85 : WP 141 0 85 [a0, vI x] S h Q ↔ WP 141 0 86 [a0, vI x] (vI x :: S) h Q := wp_iload rfl rfl
theorem s141_86 : WP 141 0 86 L (vI y :: vI x :: S) h Q ↔ WP 141 0 87 L (vI (wr (x + y)) :: S) h Q := wp_pl rfl rfl rfl
theorem s141_87 : WP 141 0 87 L S h Q ↔ WP 141 0 88 L (vI 1 :: S) h Q := wp_pl rfl rfl rfl
theorem s141_88 : WP 141 0 88 L (vI y :: vI x :: vA (some a) :: S) h Q ↔ (((hk h a).1 = 1 ∧ (0 ≤ x ∧ x < ((hk h a).2 : Int)) ∧ zNC ≤ a) ∧ WP 141 0 89 L S (hput h a x.toNat (vI y)) Q) := wp_if rfl rfl rfl
theorem s141_89 : WP 141 0 89 L [] h Q ↔ Q (.inl none) h := wp_ret rfl
/-! RepeatFreeModel.becomes(I)V -/
theorem s142_0 : WP 142 0 0 [vA r, a1, a2] S h Q ↔ WP 142 0 1 [vA r, a1, a2] (vA r :: S) h Q := wp_aload rfl rfl
theorem s142_1 : WP 142 0 1 L (vA (some a) :: S) h Q ↔ ((hk h a).1 = 110 ∧ (zw S ≤ 8 ∧ WP 195 0 0 [vA (some a), vJ, vJ] [] h (zret 142 0 1 4 L S Q))) := wp_V1 (c := 110) rfl rfl (fun _ => rfl) rfl rfl (zcan_of rfl rfl) rfl rfl rfl
theorem s142_4 : WP 142 0 4 [vA r, a1, a2] S h Q ↔ WP 142 0 5 [vA r, a1, a2] (vA r :: S) h Q := wp_aload rfl rfl
theorem s142_5 : WP 142 0 5 [a0, vI x, a2] S h Q ↔ WP 142 0 6 [a0, vI x, a2] (vI x :: S) h Q := wp_iload rfl rfl
theorem s142_6 : WP 142 0 6 L (vI x :: vA (some a) :: S) h Q ↔ ((zNC ≤ a ∧ zhas 59 (hk h a) = true) ∧ WP 142 0 9 L S (hput h a 59 (vI x)) Q) := wp_put0 rfl rfl
theorem s142_9 : WP 142 0 9 L S h Q ↔ WP 142 0 10 L (vI 0 :: S) h Q := wp_pl rfl rfl rfl
theorem s142_10 : WP 142 0 10 [a0, a1, a2] (vI x :: S) h Q ↔ WP 142 0 11 [a0, a1, vI x] S h Q := wp_istore rfl rfl rfl
theorem s142_11 : WP 142 0 11 [a0, a1, vI x] S h Q ↔ WP 142 0 12 [a0, a1, vI x] (vI x :: S) h Q := wp_iload rfl rfl
theorem s142_12 : WP 142 0 12 [a0, vI x, a2] S h Q ↔ WP 142 0 13 [a0, vI x, a2] (vI x :: S) h Q := wp_iload rfl rfl
theorem s142_13 : WP 142 0 13 L (vI y :: vI x :: S) h Q ↔ zif (x < y) (WP 142 0 16 L S h Q) (WP 142 0 34 L S h Q) := wp_bN zc_lt rfl rfl rfl
theorem s142_16 : WP 142 0 16 [vA r, a1, a2] S h Q ↔ WP 142 0 17 [vA r, a1, a2] (vA r :: S) h Q := wp_aload rfl rfl
theorem s142_17 : WP 142 0 17 L (vA (some a) :: S) h Q ↔ (zhas 57 (hk h a) = true ∧ WP 142 0 20 L (hm h a 57 :: S) h Q) := wp_if rfl rfl rfl
theorem s142_20 : WP 142 0 20 [a0, a1, vI x] S h Q ↔ WP 142 0 21 [a0, a1, vI x] (vI x :: S) h Q := wp_iload rfl rfl
theorem s142_21 : WP 142 0 21 [vA r, a1, a2] S h Q ↔ WP 142 0 22 [vA r, a1, a2] (vA r :: S) h Q := wp_aload rfl rfl
theorem s142_22 : WP 142 0 22 L (vA (some a) :: S) h Q ↔ (zhas 58 (hk h a) = true ∧ WP 142 0 25 L (hm h a 58 :: S) h Q) := wp_if rfl rfl rfl
theorem s142_25 : WP 142 0 25 [a0, a1, vI x] S h Q ↔ WP 142 0 26 [a0, a1, vI x] (vI x :: S) h Q := wp_iload rfl rfl
theorem s142_26 : WP 142 0 26 L (vI x :: vA (some a) :: S) h Q ↔ (((hk h a).1 = 1 ∧ 0 ≤ x ∧ x < ((hk h a).2 : Int)) ∧ WP 142 0 27 L (hm h a x.toNat :: S) h Q) := wp_if rfl rfl rfl
theorem s142_27 : WP 142 0 27 L (vI y :: vI x :: vA (some a) :: S) h Q ↔ (((hk h a).1 = 1 ∧ (0 ≤ x ∧ x < ((hk h a).2 : Int)) ∧ zNC ≤ a) ∧ WP 142 0 28 L S (hput h a x.toNat (vI y)) Q) := wp_if rfl rfl rfl
theorem s142_28 : WP 142 0 28 [a0, a1, vI x] S h Q ↔ WP 142 0 31 [a0, a1, vI (wr (x + 1))] S h Q := wp_iinc rfl rfl rfl
theorem s142_31 : WP 142 0 31 L S h Q ↔ WP 142 0 11 L S h Q := wp_pl rfl rfl rfl
theorem s142_34 : WP 142 0 34 L [] h Q ↔ Q (.inl none) h := wp_ret rfl
/-! RepeatFreeModel.becomesFound(I)V -/
theorem s143_0 : WP 143 0 0 L S h Q ↔ WP 143 0 1 L (vI 0 :: S) h Q := wp_pl rfl rfl rfl
theorem s143_1 : WP 143 0 1 [a0, a1, a2] (vI x :: S) h Q ↔ WP 143 0 2 [a0, a1, vI x] S h Q := wp_istore rfl rfl rfl
theorem s143_2 : WP 143 0 2 [a0, a1, vI x] S h Q ↔ WP 143 0 3 [a0, a1, vI x] (vI x :: S) h Q := wp_iload rfl rfl
theorem s143_3 : WP 143 0 3 [a0, vI x, a2] S h Q ↔ WP 143 0 4 [a0, vI x, a2] (vI x :: S) h Q := wp_iload rfl rfl
theorem s143_4 : WP 143 0 4 L (vI y :: vI x :: S) h Q ↔ zif (x < y) (WP 143 0 7 L S h Q) (WP 143 0 25 L S h Q) := wp_bN zc_lt rfl rfl rfl
theorem s143_7 : WP 143 0 7 [vA r, a1, a2] S h Q ↔ WP 143 0 8 [vA r, a1, a2] (vA r :: S) h Q := wp_aload rfl rfl
theorem s143_8 : WP 143 0 8 L (vA (some a) :: S) h Q ↔ (zhas 58 (hk h a) = true ∧ WP 143 0 11 L (hm h a 58 :: S) h Q) := wp_if rfl rfl rfl
theorem s143_11 : WP 143 0 11 [a0, a1, vI x] S h Q ↔ WP 143 0 12 [a0, a1, vI x] (vI x :: S) h Q := wp_iload rfl rfl
theorem s143_12 : WP 143 0 12 [vA r, a1, a2] S h Q ↔ WP 143 0 13 [vA r, a1, a2] (vA r :: S) h Q := wp_aload rfl rfl
theorem s143_13 : WP 143 0 13 L (vA (some a) :: S) h Q ↔ (zhas 64 (hk h a) = true ∧ WP 143 0 16 L (hm h a 64 :: S) h Q) := wp_if rfl rfl rfl
theorem s143_16 : WP 143 0 16 [a0, a1, vI x] S h Q ↔ WP 143 0 17 [a0, a1, vI x] (vI x :: S) h Q := wp_iload rfl rfl
theorem s143_17 : WP 143 0 17 L (vI x :: vA (some a) :: S) h Q ↔ (((hk h a).1 = 1 ∧ 0 ≤ x ∧ x < ((hk h a).2 : Int)) ∧ WP 143 0 18 L (hm h a x.toNat :: S) h Q) := wp_if rfl rfl rfl
theorem s143_18 : WP 143 0 18 L (vI y :: vI x :: vA (some a) :: S) h Q ↔ (((hk h a).1 = 1 ∧ (0 ≤ x ∧ x < ((hk h a).2 : Int)) ∧ zNC ≤ a) ∧ WP 143 0 19 L S (hput h a x.toNat (vI y)) Q) := wp_if rfl rfl rfl
theorem s143_19 : WP 143 0 19 [a0, a1, vI x] S h Q ↔ WP 143 0 22 [a0, a1, vI (wr (x + 1))] S h Q := wp_iinc rfl rfl rfl
theorem s143_22 : WP 143 0 22 L S h Q ↔ WP 143 0 2 L S h Q := wp_pl rfl rfl rfl
theorem s143_25 : WP 143 0 25 [vA r, a1, a2] S h Q ↔ WP 143 0 26 [vA r, a1, a2] (vA r :: S) h Q := wp_aload rfl rfl
theorem s143_26 : WP 143 0 26 [a0, vI x, a2] S h Q ↔ WP 143 0 27 [a0, vI x, a2] (vI x :: S) h Q := wp_iload rfl rfl
theorem s143_27 : WP 143 0 27 L (vI x0 :: vA (some a) :: S) h Q ↔ ((hk h a).1 = 110 ∧ (zw S ≤ 8 ∧ WP 142 0 0 [vA (some a), vI x0, vJ] [] h (zret 143 0 27 30 L S Q))) := wp_V1 (c := 110) rfl rfl (fun _ => rfl) rfl rfl (zcan_of rfl rfl) rfl rfl rfl
theorem s143_30 : WP 143 0 30 L [] h Q ↔ Q (.inl none) h := wp_ret rfl
/-! RepeatFreeModel.begins()V -/
theorem s144_0 : WP 144 0 0 [vA r] S h Q ↔ WP 144 0 1 [vA r] (vA r :: S) h Q := wp_aload rfl rfl
theorem s144_1 : WP 144 0 1 [vA r] S h Q ↔ WP 144 0 2 [vA r] (vA r :: S) h Q := wp_aload rfl rfl
theorem s144_2 : WP 144 0 2 L (vA (some a) :: S) h Q ↔ (zhas 47 (hk h a) = true ∧ WP 144 0 5 L (hm h a 47 :: S) h Q) := wp_if rfl rfl rfl
theorem s144_5 : WP 144 0 5 L (vI x :: vA (some a) :: S) h Q ↔ ((zNC ≤ a ∧ zhas 51 (hk h a) = true) ∧ WP 144 0 8 L S (hput h a 51 (vI x)) Q) := wp_put0 rfl rfl
theorem s144_8 : WP 144 0 8 [vA r] S h Q ↔ WP 144 0 9 [vA r] (vA r :: S) h Q := wp_aload rfl rfl
theorem s144_9 : WP 144 0 9 L S h Q ↔ WP 144 0 10 L (vI 0 :: S) h Q := wp_pl rfl rfl rfl
theorem s144_10 : WP 144 0 10 L (vI x :: vA (some a) :: S) h Q ↔ ((zNC ≤ a ∧ zhas 47 (hk h a) = true) ∧ WP 144 0 13 L S (hput h a 47 (vI x)) Q) := wp_put0 rfl rfl
theorem s144_13 : WP 144 0 13 [vA r] S h Q ↔ WP 144 0 14 [vA r] (vA r :: S) h Q := wp_aload rfl rfl
theorem s144_14 : WP 144 0 14 L S h Q ↔ WP 144 0 15 L (vI 0 :: S) h Q := wp_pl rfl rfl rfl
theorem s144_15 : WP 144 0 15 L (vI x :: vA (some a) :: S) h Q ↔ ((zNC ≤ a ∧ zhas 49 (hk h a) = true) ∧ WP 144 0 18 L S (hput h a 49 (vI x)) Q) := wp_put0 rfl rfl
theorem s144_18 : WP 144 0 18 [vA r] S h Q ↔ WP 144 0 19 [vA r] (vA r :: S) h Q := wp_aload rfl rfl
theorem s144_19 : WP 144 0 19 L S h Q ↔ WP 144 0 20 L (vI (-1) :: S) h Q := wp_pl rfl rfl rfl
theorem s144_20 : WP 144 0 20 L (vI x :: vA (some a) :: S) h Q ↔ ((zNC ≤ a ∧ zhas 52 (hk h a) = true) ∧ WP 144 0 23 L S (hput h a 52 (vI x)) Q) := wp_put0 rfl rfl
theorem s144_23 : WP 144 0 23 L [] h Q ↔ Q (.inl none) h := wp_ret rfl
/-! RepeatFreeModel.blanks()V -/
theorem s145_0 : WP 145 0 0 [vA r] S h Q ↔ WP 145 0 1 [vA r] (vA r :: S) h Q := wp_aload rfl rfl
theorem s145_1 : WP 145 0 1 L S h Q ↔ WP 145 0 3 L (vI 9 :: S) h Q := wp_pl rfl rfl rfl
theorem s145_3 : WP 145 0 3 L S h Q ↔ WP 145 0 5 L (vI 10 :: S) h Q := wp_pl rfl rfl rfl
theorem s145_5 : WP 145 0 5 L (vI x1 :: vI x0 :: vA (some a) :: S) h Q ↔ ((hk h a).1 = 110 ∧ (zw S ≤ 8 ∧ WP 186 0 0 [vA (some a), vI x0, vI x1] [] h (zret 145 0 5 8 L S Q))) := wp_V1 (c := 110) rfl rfl (fun _ => rfl) rfl rfl (zcan_of rfl rfl) rfl rfl rfl
theorem s145_8 : WP 145 0 8 L (vI x :: S) h Q ↔ zif (x = 0) (WP 145 0 11 L S h Q) (WP 145 0 22 L S h Q) := wp_bN zc_eq rfl rfl rfl
theorem s145_11 : WP 145 0 11 [vA r] S h Q ↔ WP 145 0 12 [vA r] (vA r :: S) h Q := wp_aload rfl rfl
theorem s145_12 : WP 145 0 12 L S h Q ↔ WP 145 0 14 L (vI 32 :: S) h Q := wp_pl rfl rfl rfl
theorem s145_14 : WP 145 0 14 L S h Q ↔ WP 145 0 16 L (vI 32 :: S) h Q := wp_pl rfl rfl rfl
theorem s145_16 : WP 145 0 16 L (vI x1 :: vI x0 :: vA (some a) :: S) h Q ↔ ((hk h a).1 = 110 ∧ (zw S ≤ 8 ∧ WP 186 0 0 [vA (some a), vI x0, vI x1] [] h (zret 145 0 16 19 L S Q))) := wp_V1 (c := 110) rfl rfl (fun _ => rfl) rfl rfl (zcan_of rfl rfl) rfl rfl rfl
theorem s145_19 : WP 145 0 19 L (vI x :: S) h Q ↔ zif (x = 0) (WP 145 0 35 L S h Q) (WP 145 0 22 L S h Q) := wp_bE zc_eq rfl rfl rfl
theorem s145_22 : WP 145 0 22 [vA r] S h Q ↔ WP 145 0 23 [vA r] (vA r :: S) h Q := wp_aload rfl rfl
theorem s145_23 : WP 145 0 23 L (vA r :: S) h Q ↔ WP 145 0 24 L (vA r :: vA r :: S) h Q := wp_pl rfl rfl rfl
theorem s145_23i : WP 145 0 23 L (vI x :: S) h Q ↔ WP 145 0 24 L (vI x :: vI x :: S) h Q := wp_pl rfl rfl rfl
theorem s145_24 : WP 145 0 24 L (vA (some a) :: S) h Q ↔ (zhas 49 (hk h a) = true ∧ WP 145 0 27 L (hm h a 49 :: S) h Q) := wp_if rfl rfl rfl
theorem s145_27 : WP 145 0 27 L S h Q ↔ WP 145 0 28 L (vI 1 :: S) h Q := wp_pl rfl rfl rfl
theorem s145_28 : WP 145 0 28 L (vI y :: vI x :: S) h Q ↔ WP 145 0 29 L (vI (wr (x + y)) :: S) h Q := wp_pl rfl rfl rfl
theorem s145_29 : WP 145 0 29 L (vI x :: vA (some a) :: S) h Q ↔ ((zNC ≤ a ∧ zhas 49 (hk h a) = true) ∧ WP 145 0 32 L S (hput h a 49 (vI x)) Q) := wp_put0 rfl rfl
theorem s145_32 : WP 145 0 32 L S h Q ↔ WP 145 0 0 L S h Q := wp_pl rfl rfl rfl
theorem s145_35 : WP 145 0 35 [vA r] S h Q ↔ WP 145 0 36 [vA r] (vA r :: S) h Q := wp_aload rfl rfl
theorem s145_36 : WP 145 0 36 [vA r] S h Q ↔ WP 145 0 37 [vA r] (vA r :: S) h Q := wp_aload rfl rfl
theorem s145_37 : WP 145 0 37 L (vA (some a) :: S) h Q ↔ (zhas 49 (hk h a) = true ∧ WP 145 0 40 L (hm h a 49 :: S) h Q) := wp_if rfl rfl rfl
theorem s145_40 : WP 145 0 40 L (vI x :: vA (some a) :: S) h Q ↔ ((zNC ≤ a ∧ zhas 50 (hk h a) = true) ∧ WP 145 0 43 L S (hput h a 50 (vI x)) Q) := wp_put0 rfl rfl
theorem s145_43 : WP 145 0 43 L [] h Q ↔ Q (.inl none) h := wp_ret rfl
/-! RepeatFreeModel.border(I)I -/
theorem s146_0 : WP 146 0 0 [vA r, a1, a2, a3, a4, a5] S h Q ↔ WP 146 0 1 [vA r, a1, a2, a3, a4, a5] (vA r :: S) h Q := wp_aload rfl rfl
theorem s146_1 : WP 146 0 1 L S h Q ↔ WP 146 0 2 L (vI 0 :: S) h Q := wp_pl rfl rfl rfl
theorem s146_2 : WP 146 0 2 L (vI x :: vA (some a) :: S) h Q ↔ ((zNC ≤ a ∧ zhas 45 (hk h a) = true) ∧ WP 146 0 5 L S (hput h a 45 (vI x)) Q) := wp_put0 rfl rfl
theorem s146_5 : WP 146 0 5 [a0, vI x, a2, a3, a4, a5] S h Q ↔ WP 146 0 6 [a0, vI x, a2, a3, a4, a5] (vI x :: S) h Q := wp_iload rfl rfl
theorem s146_6 : WP 146 0 6 [a0, a1, a2, a3, a4, a5] (vI x :: S) h Q ↔ WP 146 0 7 [a0, a1, vI x, a3, a4, a5] S h Q := wp_istore rfl rfl rfl
theorem s146_7 : WP 146 0 7 [vA r, a1, a2, a3, a4, a5] S h Q ↔ WP 146 0 8 [vA r, a1, a2, a3, a4, a5] (vA r :: S) h Q := wp_aload rfl rfl
theorem s146_8 : WP 146 0 8 L (vA (some a) :: S) h Q ↔ (zhas 59 (hk h a) = true ∧ WP 146 0 11 L (hm h a 59 :: S) h Q) := wp_if rfl rfl rfl
theorem s146_11 : WP 146 0 11 L S h Q ↔ WP 146 0 12 L (vI 1 :: S) h Q := wp_pl rfl rfl rfl
theorem s146_12 : WP 146 0 12 L (vI y :: vI x :: S) h Q ↔ WP 146 0 13 L (vI (wr (x - y)) :: S) h Q := wp_pl rfl rfl rfl
theorem s146_13 : WP 146 0 13 [a0, a1, a2, a3, a4, a5] (vI x :: S) h Q ↔ WP 146 0 14 [a0, a1, a2, vI x, a4, a5] S h Q := wp_istore rfl rfl rfl
theorem s146_14 : WP 146 0 14 [a0, a1, a2, vI x, a4, a5] S h Q ↔ WP 146 0 15 [a0, a1, a2, vI x, a4, a5] (vI x :: S) h Q := wp_iload rfl rfl
theorem s146_15 : WP 146 0 15 L (vI x :: S) h Q ↔ zif (0 < x) (WP 146 0 18 L S h Q) (WP 146 0 99 L S h Q) := wp_bN zc_gt rfl rfl rfl
theorem s146_18 : WP 146 0 18 [a0, vI x, a2, a3, a4, a5] S h Q ↔ WP 146 0 19 [a0, vI x, a2, a3, a4, a5] (vI x :: S) h Q := wp_iload rfl rfl
theorem s146_19 : WP 146 0 19 L (vI x :: S) h Q ↔ zif (x < 0) (WP 146 0 99 L S h Q) (WP 146 0 22 L S h Q) := wp_bE zc_lt rfl rfl rfl
theorem s146_22 : WP 146 0 22 L S h Q ↔ WP 146 0 23 L (vI 1 :: S) h Q := wp_pl rfl rfl rfl
theorem s146_23 : WP 146 0 23 [a0, a1, a2, a3, a4, a5] (vI x :: S) h Q ↔ WP 146 0 25 [a0, a1, a2, a3, vI x, a5] S h Q := wp_istore rfl rfl rfl
theorem s146_25 : WP 146 0 25 L S h Q ↔ WP 146 0 26 L (vI 0 :: S) h Q := wp_pl rfl rfl rfl
theorem s146_26 : WP 146 0 26 [a0, a1, a2, a3, a4, a5] (vI x :: S) h Q ↔ WP 146 0 28 [a0, a1, a2, a3, a4, vI x] S h Q := wp_istore rfl rfl rfl
theorem s146_28 : WP 146 0 28 [a0, a1, a2, a3, a4, vI x] S h Q ↔ WP 146 0 30 [a0, a1, a2, a3, a4, vI x] (vI x :: S) h Q := wp_iload rfl rfl
theorem s146_30 : WP 146 0 30 [a0, a1, a2, vI x, a4, a5] S h Q ↔ WP 146 0 31 [a0, a1, a2, vI x, a4, a5] (vI x :: S) h Q := wp_iload rfl rfl
theorem s146_31 : WP 146 0 31 L (vI y :: vI x :: S) h Q ↔ zif (x < y) (WP 146 0 34 L S h Q) (WP 146 0 76 L S h Q) := wp_bN zc_lt rfl rfl rfl
theorem s146_34 : WP 146 0 34 [a0, a1, a2, a3, vI x, a5] S h Q ↔ WP 146 0 36 [a0, a1, a2, a3, vI x, a5] (vI x :: S) h Q := wp_iload rfl rfl
theorem s146_36 : WP 146 0 36 L (vI x :: S) h Q ↔ zif (x = 0) (WP 146 0 76 L S h Q) (WP 146 0 39 L S h Q) := wp_bE zc_eq rfl rfl rfl
theorem s146_39 : WP 146 0 39 [vA r, a1, a2, a3, a4, a5] S h Q ↔ WP 146 0 40 [vA r, a1, a2, a3, a4, a5] (vA r :: S) h Q := wp_aload rfl rfl
theorem s146_40 : WP 146 0 40 L (vA (some a) :: S) h Q ↔ (zhas 57 (hk h a) = true ∧ WP 146 0 43 L (hm h a 57 :: S) h Q) := wp_if rfl rfl rfl
theorem s146_43 : WP 146 0 43 [a0, a1, a2, a3, a4, vI x] S h Q ↔ WP 146 0 45 [a0, a1, a2, a3, a4, vI x] (vI x :: S) h Q := wp_iload rfl rfl
theorem s146_45 : WP 146 0 45 L (vI x :: vA (some a) :: S) h Q ↔ (((hk h a).1 = 1 ∧ 0 ≤ x ∧ x < ((hk h a).2 : Int)) ∧ WP 146 0 46 L (hm h a x.toNat :: S) h Q) := wp_if rfl rfl rfl
theorem s146_46 : WP 146 0 46 [vA r, a1, a2, a3, a4, a5] S h Q ↔ WP 146 0 47 [vA r, a1, a2, a3, a4, a5] (vA r :: S) h Q := wp_aload rfl rfl
theorem s146_47 : WP 146 0 47 L (vA (some a) :: S) h Q ↔ (zhas 57 (hk h a) = true ∧ WP 146 0 50 L (hm h a 57 :: S) h Q) := wp_if rfl rfl rfl
theorem s146_50 : WP 146 0 50 [vA r, a1, a2, a3, a4, a5] S h Q ↔ WP 146 0 51 [vA r, a1, a2, a3, a4, a5] (vA r :: S) h Q := wp_aload rfl rfl
theorem s146_51 : WP 146 0 51 L (vA (some a) :: S) h Q ↔ (zhas 59 (hk h a) = true ∧ WP 146 0 54 L (hm h a 59 :: S) h Q) := wp_if rfl rfl rfl
theorem s146_54 : WP 146 0 54 [a0, a1, a2, vI x, a4, a5] S h Q ↔ WP 146 0 55 [a0, a1, a2, vI x, a4, a5] (vI x :: S) h Q := wp_iload rfl rfl
theorem s146_55 : WP 146 0 55 L (vI y :: vI x :: S) h Q ↔ WP 146 0 56 L (vI (wr (x - y)) :: S) h Q := wp_pl rfl rfl rfl
theorem s146_56 : WP 146 0 56 [a0, a1, a2, a3, a4, vI x] S h Q ↔ WP 146 0 58 [a0, a1, a2, a3, a4, vI x] (vI x :: S) h Q := wp_iload rfl rfl
theorem s146_58 : WP 146 0 58 L (vI y :: vI x :: S) h Q ↔ WP 146 0 59 L (vI (wr (x + y)) :: S) h Q := wp_pl rfl rfl rfl
theorem s146_59 : WP 146 0 59 L (vI x :: vA (some a) :: S) h Q ↔ (((hk h a).1 = 1 ∧ 0 ≤ x ∧ x < ((hk h a).2 : Int)) ∧ WP 146 0 60 L (hm h a x.toNat :: S) h Q) := wp_if rfl rfl rfl
theorem s146_60 : WP 146 0 60 L (vI y :: vI x :: S) h Q ↔ zif (x = y) (WP 146 0 63 L S h Q) (WP 146 0 67 L S h Q) := wp_bN zc_eq rfl rfl rfl
theorem s146_63 : WP 146 0 63 L S h Q ↔ WP 146 0 64 L (vI 1 :: S) h Q := wp_pl rfl rfl rfl
theorem s146_64 : WP 146 0 64 L S h Q ↔ WP 146 0 68 L S h Q := wp_pl rfl rfl rfl
theorem s146_67 : WP 146 0 67 L S h Q ↔ WP 146 0 68 L (vI 0 :: S) h Q := wp_pl rfl rfl rfl
theorem s146_68 : WP 146 0 68 [a0, a1, a2, a3, a4, a5] (vI x :: S) h Q ↔ WP 146 0 70 [a0, a1, a2, a3, vI x, a5] S h Q := wp_istore rfl rfl rfl
theorem s146_70 : WP 146 0 70 [a0, a1, a2, a3, a4, vI x] S h Q ↔ WP 146 0 73 [a0, a1, a2, a3, a4, vI (wr (x + 1))] S h Q := wp_iinc rfl rfl rfl
theorem s146_73 : WP 146 0 73 L S h Q ↔ WP 146 0 28 L S h Q := wp_pl rfl rfl rfl
theorem s146_76 : WP 146 0 76 [a0, a1, a2, a3, vI x, a5] S h Q ↔ WP 146 0 78 [a0, a1, a2, a3, vI x, a5] (vI x :: S) h Q := wp_iload rfl rfl
theorem s146_78 : WP 146 0 78 L (vI x :: S) h Q ↔ zif (x = 0) (WP 146 0 81 L S h Q) (WP 146 0 84 L S h Q) := wp_bN zc_eq rfl rfl rfl
theorem s146_81 : WP 146 0 81 L S h Q ↔ WP 146 0 93 L S h Q := wp_pl rfl rfl rfl
theorem s146_84 : WP 146 0 84 [a0, a1, vI x, a3, a4, a5] S h Q ↔ WP 146 0 85 [a0, a1, vI x, a3, a4, a5] (vI x :: S) h Q := wp_iload rfl rfl
theorem s146_85 : WP 146 0 85 L (vI x :: S) h Q ↔ zif (x = 0) (WP 146 0 88 L S h Q) (WP 146 0 90 L S h Q) := wp_bN zc_eq rfl rfl rfl
theorem s146_88 : WP 146 0 88 [a0, a1, a2, vI x, a4, a5] S h Q ↔ WP 146 0 89 [a0, a1, a2, vI x, a4, a5] (vI x :: S) h Q := wp_iload rfl rfl
theorem s146_89 : WP 146 0 89 L [vI x] h Q ↔ Q (.inl (some (vI x))) h := wp_iret0 rfl rfl
theorem s146_90 : WP 146 0 90 [a0, a1, vI x, a3, a4, a5] S h Q ↔ WP 146 0 93 [a0, a1, vI (wr (x + (-1))), a3, a4, a5] S h Q := wp_iinc rfl rfl rfl
theorem s146_93 : WP 146 0 93 [a0, a1, a2, vI x, a4, a5] S h Q ↔ WP 146 0 96 [a0, a1, a2, vI (wr (x + (-1))), a4, a5] S h Q := wp_iinc rfl rfl rfl
theorem s146_96 : WP 146 0 96 L S h Q ↔ WP 146 0 14 L S h Q := wp_pl rfl rfl rfl
theorem s146_99 : WP 146 0 99 L S h Q ↔ WP 146 0 100 L (vI (-1) :: S) h Q := wp_pl rfl rfl rfl
theorem s146_100 : WP 146 0 100 L [vI x] h Q ↔ Q (.inl (some (vI x))) h := wp_iret0 rfl rfl
/-! RepeatFreeModel.breaks(II)I -/
theorem s147_0 : WP 147 0 0 [vA r, a1, a2, a3, a4] S h Q ↔ WP 147 0 1 [vA r, a1, a2, a3, a4] (vA r :: S) h Q := wp_aload rfl rfl
theorem s147_1 : WP 147 0 1 L S h Q ↔ WP 147 0 2 L (vI 0 :: S) h Q := wp_pl rfl rfl rfl
theorem s147_2 : WP 147 0 2 L (vI x :: vA (some a) :: S) h Q ↔ ((zNC ≤ a ∧ zhas 45 (hk h a) = true) ∧ WP 147 0 5 L S (hput h a 45 (vI x)) Q) := wp_put0 rfl rfl
theorem s147_5 : WP 147 0 5 [vA r, a1, a2, a3, a4] S h Q ↔ WP 147 0 6 [vA r, a1, a2, a3, a4] (vA r :: S) h Q := wp_aload rfl rfl
theorem s147_6 : WP 147 0 6 [a0, vI x, a2, a3, a4] S h Q ↔ WP 147 0 7 [a0, vI x, a2, a3, a4] (vI x :: S) h Q := wp_iload rfl rfl
theorem s147_7 : WP 147 0 7 L (vI x0 :: vA (some a) :: S) h Q ↔ ((hk h a).1 = 110 ∧ (zw S ≤ 8 ∧ WP 223 0 0 [vA (some a), vI x0] [] h (zret 147 0 7 10 L S Q))) := wp_V1 (c := 110) rfl rfl (fun _ => rfl) rfl rfl (zcan_of rfl rfl) rfl rfl rfl
theorem s147_10 : WP 147 0 10 L (vI x :: S) h Q ↔ zif (x = 0) (WP 147 0 13 L S h Q) (WP 147 0 36 L S h Q) := wp_bN zc_eq rfl rfl rfl
theorem s147_13 : WP 147 0 13 [vA r, a1, a2, a3, a4] S h Q ↔ WP 147 0 14 [vA r, a1, a2, a3, a4] (vA r :: S) h Q := wp_aload rfl rfl
theorem s147_14 : WP 147 0 14 [a0, a1, vI x, a3, a4] S h Q ↔ WP 147 0 15 [a0, a1, vI x, a3, a4] (vI x :: S) h Q := wp_iload rfl rfl
theorem s147_15 : WP 147 0 15 L S h Q ↔ WP 147 0 16 L (vI 1 :: S) h Q := wp_pl rfl rfl rfl
theorem s147_16 : WP 147 0 16 L S h Q ↔ WP 147 0 18 L (vI 6 :: S) h Q := wp_pl rfl rfl rfl
theorem s147_18 : WP 147 0 18 L (vI x2 :: vI x1 :: vI x0 :: S) h Q ↔ (zw S ≤ 8 ∧ WP 183 0 0 [vI x0, vI x1, vI x2] [] h (zret 147 0 18 21 L S Q)) := wp_S rfl rfl (zcan_of rfl rfl) rfl rfl rfl
theorem s147_21 : WP 147 0 21 L (vI x :: S) h Q ↔ zif (x = 0) (WP 147 0 24 L S h Q) (WP 147 0 28 L S h Q) := wp_bN zc_eq rfl rfl rfl
theorem s147_24 : WP 147 0 24 L S h Q ↔ WP 147 0 25 L (vI 1 :: S) h Q := wp_pl rfl rfl rfl
theorem s147_25 : WP 147 0 25 L S h Q ↔ WP 147 0 29 L S h Q := wp_pl rfl rfl rfl
theorem s147_28 : WP 147 0 28 L S h Q ↔ WP 147 0 29 L (vI 0 :: S) h Q := wp_pl rfl rfl rfl
theorem s147_29 : WP 147 0 29 L S h Q ↔ WP 147 0 30 L (vI 2 :: S) h Q := wp_pl rfl rfl rfl
theorem s147_30 : WP 147 0 30 L (vI x1 :: vI x0 :: vA (some a) :: S) h Q ↔ ((hk h a).1 = 110 ∧ (zw S ≤ 8 ∧ WP 248 0 0 [vA (some a), vI x0, vI x1] [] h (zret 147 0 30 33 L S Q))) := wp_V1 (c := 110) rfl rfl (fun _ => rfl) rfl rfl (zcan_of rfl rfl) rfl rfl rfl
theorem s147_33 : WP 147 0 33 L (vI x :: S) h Q ↔ zif (x = 0) (WP 147 0 38 L S h Q) (WP 147 0 36 L S h Q) := wp_bE zc_eq rfl rfl rfl
theorem s147_36 : WP 147 0 36 L S h Q ↔ WP 147 0 37 L (vI 0 :: S) h Q := wp_pl rfl rfl rfl
theorem s147_37 : WP 147 0 37 L [vI x] h Q ↔ Q (.inl (some (vI x))) h := wp_iret0 rfl rfl
theorem s147_38 : WP 147 0 38 [vA r, a1, a2, a3, a4] S h Q ↔ WP 147 0 39 [vA r, a1, a2, a3, a4] (vA r :: S) h Q := wp_aload rfl rfl
theorem s147_39 : WP 147 0 39 [a0, vI x, a2, a3, a4] S h Q ↔ WP 147 0 40 [a0, vI x, a2, a3, a4] (vI x :: S) h Q := wp_iload rfl rfl
theorem s147_40 : WP 147 0 40 [a0, a1, vI x, a3, a4] S h Q ↔ WP 147 0 41 [a0, a1, vI x, a3, a4] (vI x :: S) h Q := wp_iload rfl rfl
theorem s147_41 : WP 147 0 41 L (vI x1 :: vI x0 :: vA (some a) :: S) h Q ↔ ((hk h a).1 = 110 ∧ (zw S ≤ 8 ∧ WP 196 0 0 [vA (some a), vI x0, vI x1, vJ, vJ] [] h (zret 147 0 41 44 L S Q))) := wp_V1 (c := 110) rfl rfl (fun _ => rfl) rfl rfl (zcan_of rfl rfl) rfl rfl rfl
theorem s147_44 : WP 147 0 44 [vA r, a1, a2, a3, a4] S h Q ↔ WP 147 0 45 [vA r, a1, a2, a3, a4] (vA r :: S) h Q := wp_aload rfl rfl
theorem s147_45 : WP 147 0 45 L (vA (some a) :: S) h Q ↔ (zhas 67 (hk h a) = true ∧ WP 147 0 48 L (hm h a 67 :: S) h Q) := wp_if rfl rfl rfl
theorem s147_48 : WP 147 0 48 L (vI x :: S) h Q ↔ zif (x = 0) (WP 147 0 51 L S h Q) (WP 147 0 58 L S h Q) := wp_bN zc_eq rfl rfl rfl
theorem s147_51 : WP 147 0 51 [vA r, a1, a2, a3, a4] S h Q ↔ WP 147 0 52 [vA r, a1, a2, a3, a4] (vA r :: S) h Q := wp_aload rfl rfl
theorem s147_52 : WP 147 0 52 L (vA (some a) :: S) h Q ↔ (zhas 70 (hk h a) = true ∧ WP 147 0 55 L (hm h a 70 :: S) h Q) := wp_if rfl rfl rfl
theorem s147_55 : WP 147 0 55 L (vI x :: S) h Q ↔ zif (x = 0) (WP 147 0 58 L S h Q) (WP 147 0 72 L S h Q) := wp_bN zc_eq rfl rfl rfl
theorem s147_58 : WP 147 0 58 [vA r, a1, a2, a3, a4] S h Q ↔ WP 147 0 59 [vA r, a1, a2, a3, a4] (vA r :: S) h Q := wp_aload rfl rfl
theorem s147_59 : WP 147 0 59 L (vA (some a) :: S) h Q ↔ (zhas 67 (hk h a) = true ∧ WP 147 0 62 L (hm h a 67 :: S) h Q) := wp_if rfl rfl rfl
theorem s147_62 : WP 147 0 62 L (vI x :: S) h Q ↔ zif (x = 0) (WP 147 0 70 L S h Q) (WP 147 0 65 L S h Q) := wp_bE zc_eq rfl rfl rfl
theorem s147_65 : WP 147 0 65 L S h Q ↔ WP 147 0 67 L (vI (-2) :: S) h Q := wp_pl rfl rfl rfl
theorem s147_67 : WP 147 0 67 L S h Q ↔ WP 147 0 71 L S h Q := wp_pl rfl rfl rfl
theorem s147_70 : WP 147 0 70 L S h Q ↔ WP 147 0 71 L (vI (-1) :: S) h Q := wp_pl rfl rfl rfl
theorem s147_71 : WP 147 0 71 L [vI x] h Q ↔ Q (.inl (some (vI x))) h := wp_iret0 rfl rfl
theorem s147_72 : WP 147 0 72 L S h Q ↔ WP 147 0 73 L (vI 0 :: S) h Q := wp_pl rfl rfl rfl
theorem s147_73 : WP 147 0 73 [a0, a1, a2, a3, a4] (vI x :: S) h Q ↔ WP 147 0 74 [a0, a1, a2, vI x, a4] S h Q := wp_istore rfl rfl rfl
theorem s147_74 : WP 147 0 74 L S h Q ↔ WP 147 0 75 L (vI 0 :: S) h Q := wp_pl rfl rfl rfl
theorem s147_75 : WP 147 0 75 [a0, a1, a2, a3, a4] (vI x :: S) h Q ↔ WP 147 0 77 [a0, a1, a2, a3, vI x] S h Q := wp_istore rfl rfl rfl
theorem s147_77 : WP 147 0 77 [a0, a1, a2, a3, vI x] S h Q ↔ WP 147 0 79 [a0, a1, a2, a3, vI x] (vI x :: S) h Q := wp_iload rfl rfl
theorem s147_79 : WP 147 0 79 [vA r, a1, a2, a3, a4] S h Q ↔ WP 147 0 80 [vA r, a1, a2, a3, a4] (vA r :: S) h Q := wp_aload rfl rfl
theorem s147_80 : WP 147 0 80 L (vA (some a) :: S) h Q ↔ (zhas 68 (hk h a) = true ∧ WP 147 0 83 L (hm h a 68 :: S) h Q) := wp_if rfl rfl rfl
theorem s147_83 : WP 147 0 83 L (vI y :: vI x :: S) h Q ↔ zif (x < y) (WP 147 0 86 L S h Q) (WP 147 0 107 L S h Q) := wp_bN zc_lt rfl rfl rfl
theorem s147_86 : WP 147 0 86 L S h Q ↔ WP 147 0 88 L (vI 10 :: S) h Q := wp_pl rfl rfl rfl
theorem s147_88 : WP 147 0 88 [a0, a1, a2, vI x, a4] S h Q ↔ WP 147 0 89 [a0, a1, a2, vI x, a4] (vI x :: S) h Q := wp_iload rfl rfl
theorem s147_89 : WP 147 0 89 L (vI y :: vI x :: S) h Q ↔ WP 147 0 90 L (vI (wr (x * y)) :: S) h Q := wp_pl rfl rfl rfl
theorem s147_90 : WP 147 0 90 [vA r, a1, a2, a3, a4] S h Q ↔ WP 147 0 91 [vA r, a1, a2, a3, a4] (vA r :: S) h Q := wp_aload rfl rfl
theorem s147_91 : WP 147 0 91 L (vA (some a) :: S) h Q ↔ (zhas 64 (hk h a) = true ∧ WP 147 0 94 L (hm h a 64 :: S) h Q) := wp_if rfl rfl rfl
theorem s147_94 : WP 147 0 94 [a0, a1, a2, a3, vI x] S h Q ↔ WP 147 0 96 [a0, a1, a2, a3, vI x] (vI x :: S) h Q := wp_iload rfl rfl
theorem s147_96 : WP 147 0 96 L (vI x :: vA (some a) :: S) h Q ↔ (((hk h a).1 = 1 ∧ 0 ≤ x ∧ x < ((hk h a).2 : Int)) ∧ WP 147 0 97 L (hm h a x.toNat :: S) h Q) := wp_if rfl rfl rfl
theorem s147_97 : WP 147 0 97 L (vI y :: vI x :: S) h Q ↔ WP 147 0 98 L (vI (wr (x + y)) :: S) h Q := wp_pl rfl rfl rfl
theorem s147_98 : WP 147 0 98 L S h Q ↔ WP 147 0 99 L (vI 1 :: S) h Q := wp_pl rfl rfl rfl
theorem s147_99 : WP 147 0 99 L (vI y :: vI x :: S) h Q ↔ WP 147 0 100 L (vI (wr (x + y)) :: S) h Q := wp_pl rfl rfl rfl
theorem s147_100 : WP 147 0 100 [a0, a1, a2, a3, a4] (vI x :: S) h Q ↔ WP 147 0 101 [a0, a1, a2, vI x, a4] S h Q := wp_istore rfl rfl rfl
theorem s147_101 : WP 147 0 101 [a0, a1, a2, a3, vI x] S h Q ↔ WP 147 0 104 [a0, a1, a2, a3, vI (wr (x + 1))] S h Q := wp_iinc rfl rfl rfl
theorem s147_104 : WP 147 0 104 L S h Q ↔ WP 147 0 77 L S h Q := wp_pl rfl rfl rfl
theorem s147_107 : WP 147 0 107 [a0, a1, a2, vI x, a4] S h Q ↔ WP 147 0 108 [a0, a1, a2, vI x, a4] (vI x :: S) h Q := wp_iload rfl rfl
theorem s147_108 : WP 147 0 108 L [vI x] h Q ↔ Q (.inl (some (vI x))) h := wp_iret0 rfl rfl
/-! RepeatFreeModel.cannot(I)Z -/
theorem s148_0 : WP 148 0 0 [vA r, a1] S h Q ↔ WP 148 0 1 [vA r, a1] (vA r :: S) h Q := wp_aload rfl rfl
theorem s148_1 : WP 148 0 1 L S h Q ↔ WP 148 0 2 L (vI 0 :: S) h Q := wp_pl rfl rfl rfl
theorem s148_2 : WP 148 0 2 L (vI x :: vA (some a) :: S) h Q ↔ ((zNC ≤ a ∧ zhas 45 (hk h a) = true) ∧ WP 148 0 5 L S (hput h a 45 (vI x)) Q) := wp_put0 rfl rfl
theorem s148_5 : WP 148 0 5 [vA r, a1] S h Q ↔ WP 148 0 6 [vA r, a1] (vA r :: S) h Q := wp_aload rfl rfl
theorem s148_6 : WP 148 0 6 [a0, vI x] S h Q ↔ WP 148 0 7 [a0, vI x] (vI x :: S) h Q := wp_iload rfl rfl
theorem s148_7 : WP 148 0 7 L (vI x0 :: vA (some a) :: S) h Q ↔ ((hk h a).1 = 110 ∧ (zw S ≤ 8 ∧ WP 224 0 0 [vA (some a), vI x0] [] h (zret 148 0 7 10 L S Q))) := wp_V1 (c := 110) rfl rfl (fun _ => rfl) rfl rfl (zcan_of rfl rfl) rfl rfl rfl
theorem s148_10 : WP 148 0 10 L (vI x :: S) h Q ↔ zif (x = 0) (WP 148 0 13 L S h Q) (WP 148 0 26 L S h Q) := wp_bN zc_eq rfl rfl rfl
theorem s148_13 : WP 148 0 13 [vA r, a1] S h Q ↔ WP 148 0 14 [vA r, a1] (vA r :: S) h Q := wp_aload rfl rfl
theorem s148_14 : WP 148 0 14 [a0, vI x] S h Q ↔ WP 148 0 15 [a0, vI x] (vI x :: S) h Q := wp_iload rfl rfl
theorem s148_15 : WP 148 0 15 L S h Q ↔ WP 148 0 16 L (vI 0 :: S) h Q := wp_pl rfl rfl rfl
theorem s148_16 : WP 148 0 16 L (vI x1 :: vI x0 :: vA (some a) :: S) h Q ↔ ((hk h a).1 = 110 ∧ (zw S ≤ 8 ∧ WP 149 9 0 [vA (some a), vI x0, vI x1, vJ, vJ, vJ] [] h (zret 148 0 16 19 L S Q))) := wp_V1 (c := 110) rfl rfl (fun _ => rfl) rfl rfl (zcan_of rfl rfl) rfl rfl rfl
theorem s148_19 : WP 148 0 19 L (vI x :: S) h Q ↔ zif (x = 0) (WP 148 0 26 L S h Q) (WP 148 0 22 L S h Q) := wp_bE zc_eq rfl rfl rfl
theorem s148_22 : WP 148 0 22 L S h Q ↔ WP 148 0 23 L (vI 1 :: S) h Q := wp_pl rfl rfl rfl
theorem s148_23 : WP 148 0 23 L S h Q ↔ WP 148 0 27 L S h Q := wp_pl rfl rfl rfl
theorem s148_26 : WP 148 0 26 L S h Q ↔ WP 148 0 27 L (vI 0 :: S) h Q := wp_pl rfl rfl rfl
theorem s148_27 : WP 148 0 27 L [vI x] h Q ↔ ((x = 0 ∨ x = 1) ∧ Q (.inl (some (vI x))) h) := wp_iret rfl rfl
/-! RepeatFreeModel.cannotBe(II)Z -/
theorem s149_0 : WP 149 lv 0 L S h Q ↔ WP 149 lv 1 L (vI 0 :: S) h Q := wp_pl rfl rfl rfl
theorem s149_1 : WP 149 lv 1 [a0, a1, a2, a3, a4, a5] (vI x :: S) h Q ↔ WP 149 lv 2 [a0, a1, a2, vI x, a4, a5] S h Q := wp_istore rfl rfl rfl
theorem s149_2 : WP 149 lv 2 L S h Q ↔ WP 149 lv 3 L (vI 0 :: S) h Q := wp_pl rfl rfl rfl
theorem s149_3 : WP 149 lv 3 [a0, a1, a2, a3, a4, a5] (vI x :: S) h Q ↔ WP 149 lv 5 [a0, a1, a2, a3, vI x, a5] S h Q := wp_istore rfl rfl rfl
theorem s149_5 : WP 149 lv 5 [a0, a1, a2, a3, vI x, a5] S h Q ↔ WP 149 lv 7 [a0, a1, a2, a3, vI x, a5] (vI x :: S) h Q := wp_iload rfl rfl
theorem s149_7 : WP 149 lv 7 [vA r, a1, a2, a3, a4, a5] S h Q ↔ WP 149 lv 8 [vA r, a1, a2, a3, a4, a5] (vA r :: S) h Q := wp_aload rfl rfl
theorem s149_8 : WP 149 lv 8 L (vA (some a) :: S) h Q ↔ (zhas 54 (hk h a) = true ∧ WP 149 lv 11 L (hm h a 54 :: S) h Q) := wp_if rfl rfl rfl
theorem s149_11 : WP 149 lv 11 L S h Q ↔ WP 149 lv 14 L (vI 166 :: S) h Q := wp_pl rfl rfl rfl
theorem s149_14 : WP 149 lv 14 [a0, vI x, a2, a3, a4, a5] S h Q ↔ WP 149 lv 15 [a0, vI x, a2, a3, a4, a5] (vI x :: S) h Q := wp_iload rfl rfl
theorem s149_15 : WP 149 lv 15 L (vI y :: vI x :: S) h Q ↔ WP 149 lv 16 L (vI (wr (x + y)) :: S) h Q := wp_pl rfl rfl rfl
theorem s149_16 : WP 149 lv 16 L (vI x :: vA (some a) :: S) h Q ↔ (((hk h a).1 = 1 ∧ 0 ≤ x ∧ x < ((hk h a).2 : Int)) ∧ WP 149 lv 17 L (hm h a x.toNat :: S) h Q) := wp_if rfl rfl rfl
theorem s149_17 : WP 149 lv 17 L (vI y :: vI x :: S) h Q ↔ zif (x < y) (WP 149 lv 20 L S h Q) (WP 149 lv 48 L S h Q) := wp_bN zc_lt rfl rfl rfl
theorem s149_20 : WP 149 lv 20 [a0, a1, a2, vI x, a4, a5] S h Q ↔ WP 149 lv 21 [a0, a1, a2, vI x, a4, a5] (vI x :: S) h Q := wp_iload rfl rfl
theorem s149_21 : WP 149 lv 21 [a0, a1, vI x, a3, a4, a5] S h Q ↔ WP 149 lv 22 [a0, a1, vI x, a3, a4, a5] (vI x :: S) h Q := wp_iload rfl rfl
theorem s149_22 : WP 149 lv 22 [vA r, a1, a2, a3, a4, a5] S h Q ↔ WP 149 lv 23 [vA r, a1, a2, a3, a4, a5] (vA r :: S) h Q := wp_aload rfl rfl
theorem s149_23 : WP 149 lv 23 [a0, vI x, a2, a3, a4, a5] S h Q ↔ WP 149 lv 24 [a0, vI x, a2, a3, a4, a5] (vI x :: S) h Q := wp_iload rfl rfl
theorem s149_24 : WP 149 lv 24 [a0, a1, a2, a3, vI x, a5] S h Q ↔ WP 149 lv 26 [a0, a1, a2, a3, vI x, a5] (vI x :: S) h Q := wp_iload rfl rfl
theorem s149_26 : WP 149 lv 26 L (vI x1 :: vI x0 :: vA (some a) :: S) h Q ↔ ((hk h a).1 = 110 ∧ (zw S ≤ 8 ∧ WP 202 0 0 [vA (some a), vI x0, vI x1] [] h (zret 149 lv 26 29 L S Q))) := wp_V1 (c := 110) rfl rfl (fun _ => rfl) rfl rfl (zcan_of rfl rfl) rfl rfl rfl
theorem s149_29 : WP 149 lv 29 L (vI y :: vI x :: S) h Q ↔ WP 149 lv 30 L (vI (zshr x y) :: S) h Q := wp_pl rfl rfl rfl
theorem s149_30 : WP 149 lv 30 L S h Q ↔ WP 149 lv 31 L (vI 1 :: S) h Q := wp_pl rfl rfl rfl
theorem s149_31 : WP 149 lv 31 L (vI y :: vI x :: S) h Q ↔ WP 149 lv 32 L (vI (zand x y) :: S) h Q := wp_pl rfl rfl rfl
theorem s149_32 : WP 149 lv 32 L (vI x :: S) h Q ↔ zif (x = 0) (WP 149 lv 35 L S h Q) (WP 149 lv 39 L S h Q) := wp_bN zc_eq rfl rfl rfl
theorem s149_35 : WP 149 lv 35 L S h Q ↔ WP 149 lv 36 L (vI 1 :: S) h Q := wp_pl rfl rfl rfl
theorem s149_36 : WP 149 lv 36 L S h Q ↔ WP 149 lv 40 L S h Q := wp_pl rfl rfl rfl
theorem s149_39 : WP 149 lv 39 L S h Q ↔ WP 149 lv 40 L (vI 0 :: S) h Q := wp_pl rfl rfl rfl
theorem s149_40 : WP 149 lv 40 L (vI y :: vI x :: S) h Q ↔ WP 149 lv 41 L (vI (wr (x + y)) :: S) h Q := wp_pl rfl rfl rfl
theorem s149_41 : WP 149 lv 41 [a0, a1, a2, a3, a4, a5] (vI x :: S) h Q ↔ WP 149 lv 42 [a0, a1, a2, vI x, a4, a5] S h Q := wp_istore rfl rfl rfl
theorem s149_42 : WP 149 lv 42 [a0, a1, a2, a3, vI x, a5] S h Q ↔ WP 149 lv 45 [a0, a1, a2, a3, vI (wr (x + 1)), a5] S h Q := wp_iinc rfl rfl rfl
theorem s149_45 : WP 149 lv 45 L S h Q ↔ WP 149 lv 5 L S h Q := wp_pl rfl rfl rfl
theorem s149_48 : WP 149 lv 48 [a0, a1, a2, vI x, a4, a5] S h Q ↔ WP 149 lv 49 [a0, a1, a2, vI x, a4, a5] (vI x :: S) h Q := wp_iload rfl rfl
theorem s149_49 : WP 149 lv 49 L S h Q ↔ WP 149 lv 50 L (vI 1 :: S) h Q := wp_pl rfl rfl rfl
theorem s149_50 : WP 149 lv 50 L (vI y :: vI x :: S) h Q ↔ zif (x = y) (WP 149 lv 53 L S h Q) (WP 149 lv 55 L S h Q) := wp_bN zc_eq rfl rfl rfl
theorem s149_53 : WP 149 lv 53 L S h Q ↔ WP 149 lv 54 L (vI 1 :: S) h Q := wp_pl rfl rfl rfl
theorem s149_54 : WP 149 lv 54 L [vI x] h Q ↔ ((x = 0 ∨ x = 1) ∧ Q (.inl (some (vI x))) h) := wp_iret rfl rfl
theorem s149_55 : WP 149 lv 55 [vA r, a1, a2, a3, a4, a5] S h Q ↔ WP 149 lv 56 [vA r, a1, a2, a3, a4, a5] (vA r :: S) h Q := wp_aload rfl rfl
theorem s149_56 : WP 149 lv 56 [a0, vI x, a2, a3, a4, a5] S h Q ↔ WP 149 lv 57 [a0, vI x, a2, a3, a4, a5] (vI x :: S) h Q := wp_iload rfl rfl
theorem s149_57 : WP 149 lv 57 L (vI x0 :: vA (some a) :: S) h Q ↔ ((hk h a).1 = 110 ∧ (zw S ≤ 8 ∧ WP 204 0 0 [vA (some a), vI x0, vJ, vJ] [] h (zret 149 lv 57 60 L S Q))) := wp_V1 (c := 110) rfl rfl (fun _ => rfl) rfl rfl (zcan_of rfl rfl) rfl rfl rfl
theorem s149_60 : WP 149 lv 60 [a0, a1, vI x, a3, a4, a5] S h Q ↔ WP 149 lv 61 [a0, a1, vI x, a3, a4, a5] (vI x :: S) h Q := wp_iload rfl rfl
theorem s149_61 : WP 149 lv 61 L S h Q ↔ WP 149 lv 62 L (vI (-1) :: S) h Q := wp_pl rfl rfl rfl
theorem s149_62 : WP 149 lv 62 L (vI y :: vI x :: S) h Q ↔ WP 149 lv 63 L (vI (zxor x y) :: S) h Q := wp_pl rfl rfl rfl
theorem s149_63 : WP 149 lv 63 L (vI y :: vI x :: S) h Q ↔ WP 149 lv 64 L (vI (zand x y) :: S) h Q := wp_pl rfl rfl rfl
theorem s149_64 : WP 149 lv 64 [a0, a1, a2, a3, a4, a5] (vI x :: S) h Q ↔ WP 149 lv 66 [a0, a1, a2, a3, vI x, a5] S h Q := wp_istore rfl rfl rfl
theorem s149_66 : WP 149 lv 66 L S h Q ↔ WP 149 lv 67 L (vI 1 :: S) h Q := wp_pl rfl rfl rfl
theorem s149_67 : WP 149 lv 67 [a0, a1, a2, a3, a4, a5] (vI x :: S) h Q ↔ WP 149 lv 69 [a0, a1, a2, a3, a4, vI x] S h Q := wp_istore rfl rfl rfl
theorem s149_69 : WP 149 lv 69 [a0, a1, a2, a3, a4, vI x] S h Q ↔ WP 149 lv 71 [a0, a1, a2, a3, a4, vI x] (vI x :: S) h Q := wp_iload rfl rfl
theorem s149_71 : WP 149 lv 71 [a0, a1, a2, a3, vI x, a5] S h Q ↔ WP 149 lv 73 [a0, a1, a2, a3, vI x, a5] (vI x :: S) h Q := wp_iload rfl rfl
theorem s149_73 : WP 149 lv 73 L (vI y :: vI x :: S) h Q ↔ zif (x < y) (WP 149 lv 76 L S h Q) (WP 149 lv 117 L S h Q) := wp_bN zc_lt rfl rfl rfl
theorem s149_76 : WP 149 lv 76 [a0, a1, a2, a3, a4, vI x] S h Q ↔ WP 149 lv 78 [a0, a1, a2, a3, a4, vI x] (vI x :: S) h Q := wp_iload rfl rfl
theorem s149_78 : WP 149 lv 78 [a0, a1, a2, a3, vI x, a5] S h Q ↔ WP 149 lv 80 [a0, a1, a2, a3, vI x, a5] (vI x :: S) h Q := wp_iload rfl rfl
theorem s149_80 : WP 149 lv 80 L S h Q ↔ WP 149 lv 81 L (vI (-1) :: S) h Q := wp_pl rfl rfl rfl
theorem s149_81 : WP 149 lv 81 L (vI y :: vI x :: S) h Q ↔ WP 149 lv 82 L (vI (zxor x y) :: S) h Q := wp_pl rfl rfl rfl
theorem s149_82 : WP 149 lv 82 L (vI y :: vI x :: S) h Q ↔ WP 149 lv 83 L (vI (zand x y) :: S) h Q := wp_pl rfl rfl rfl
theorem s149_83 : WP 149 lv 83 L (vI x :: S) h Q ↔ zif (x = 0) (WP 149 lv 86 L S h Q) (WP 149 lv 111 L S h Q) := wp_bN zc_eq rfl rfl rfl
theorem s149_86 : WP 149 lv 86 [vA r, a1, a2, a3, a4, a5] S h Q ↔ WP 149 lv 87 [vA r, a1, a2, a3, a4, a5] (vA r :: S) h Q := wp_aload rfl rfl
theorem s149_87 : WP 149 lv 87 [a0, vI x, a2, a3, a4, a5] S h Q ↔ WP 149 lv 88 [a0, vI x, a2, a3, a4, a5] (vI x :: S) h Q := wp_iload rfl rfl
theorem s149_88 : WP 149 lv 88 [a0, a1, vI x, a3, a4, a5] S h Q ↔ WP 149 lv 89 [a0, a1, vI x, a3, a4, a5] (vI x :: S) h Q := wp_iload rfl rfl
theorem s149_89 : WP 149 lv 89 [a0, a1, a2, a3, a4, vI x] S h Q ↔ WP 149 lv 91 [a0, a1, a2, a3, a4, vI x] (vI x :: S) h Q := wp_iload rfl rfl
theorem s149_91 : WP 149 lv 91 L (vI x2 :: vI x1 :: vI x0 :: vA (some a) :: S) h Q ↔ ((hk h a).1 = 110 ∧ (zw S ≤ 8 ∧ WP 189 0 0 [vA (some a), vI x0, vI x1, vI x2, vJ, vJ, vJ] [] h (zret 149 lv 91 94 L S Q))) := wp_V1 (c := 110) rfl rfl (fun _ => rfl) rfl rfl (zcan_of rfl rfl) rfl rfl rfl
theorem s149_94 : WP 149 lv 94 L (vI x :: S) h Q ↔ zif (x = 0) (WP 149 lv 111 L S h Q) (WP 149 lv 97 L S h Q) := wp_bE zc_eq rfl rfl rfl
theorem s149_97 : WP 149 lv 97 [vA r, a1, a2, a3, a4, a5] S h Q ↔ WP 149 lv 98 [vA r, a1, a2, a3, a4, a5] (vA r :: S) h Q := wp_aload rfl rfl
theorem s149_98 : WP 149 lv 98 [a0, vI x, a2, a3, a4, a5] S h Q ↔ WP 149 lv 99 [a0, vI x, a2, a3, a4, a5] (vI x :: S) h Q := wp_iload rfl rfl
theorem s149_99 : WP 149 lv 99 [a0, a1, vI x, a3, a4, a5] S h Q ↔ WP 149 lv 100 [a0, a1, vI x, a3, a4, a5] (vI x :: S) h Q := wp_iload rfl rfl
theorem s149_100 : WP 149 lv 100 [a0, a1, a2, a3, a4, vI x] S h Q ↔ WP 149 lv 102 [a0, a1, a2, a3, a4, vI x] (vI x :: S) h Q := wp_iload rfl rfl
theorem s149_102 : WP 149 lv 102 L (vI y :: vI x :: S) h Q ↔ WP 149 lv 103 L (vI (zor x y) :: S) h Q := wp_pl rfl rfl rfl
theorem s149_103 : WP 149 (lv + 1) 103 L (vI x1 :: vI x0 :: vA (some a) :: S) h Q ↔ ((hk h a).1 = 110 ∧ (zw S ≤ 8 ∧ WP 149 lv 0 [vA (some a), vI x0, vI x1, vJ, vJ, vJ] [] h (zret 149 (lv + 1) 103 106 L S Q))) := wp_V1 (c := 110) rfl rfl (fun _ => rfl) rfl rfl zcan_self rfl rfl rfl
theorem s149_106 : WP 149 lv 106 L (vI x :: S) h Q ↔ zif (x = 0) (WP 149 lv 111 L S h Q) (WP 149 lv 109 L S h Q) := wp_bE zc_eq rfl rfl rfl
theorem s149_109 : WP 149 lv 109 L S h Q ↔ WP 149 lv 110 L (vI 1 :: S) h Q := wp_pl rfl rfl rfl
theorem s149_110 : WP 149 lv 110 L [vI x] h Q ↔ ((x = 0 ∨ x = 1) ∧ Q (.inl (some (vI x))) h) := wp_iret rfl rfl
theorem s149_111 : WP 149 lv 111 [a0, a1, a2, a3, a4, vI x] S h Q ↔ WP 149 lv 114 [a0, a1, a2, a3, a4, vI (wr (x + 1))] S h Q := wp_iinc rfl rfl rfl
theorem s149_114 : WP 149 lv 114 L S h Q ↔ WP 149 lv 69 L S h Q := wp_pl rfl rfl rfl
theorem s149_117 : WP 149 lv 117 L S h Q ↔ WP 149 lv 118 L (vI 0 :: S) h Q := wp_pl rfl rfl rfl
theorem s149_118 : WP 149 lv 118 L [vI x] h Q ↔ ((x = 0 ∨ x = 1) ∧ Q (.inl (some (vI x))) h) := wp_iret rfl rfl
/-! RepeatFreeModel.code(I)Z -/
theorem s150_0 : WP 150 0 0 [vA r, a1, a2, a3, a4, a5] S h Q ↔ WP 150 0 1 [vA r, a1, a2, a3, a4, a5] (vA r :: S) h Q := wp_aload rfl rfl
theorem s150_1 : WP 150 0 1 L S h Q ↔ WP 150 0 2 L (vI 0 :: S) h Q := wp_pl rfl rfl rfl
theorem s150_2 : WP 150 0 2 L (vI x :: vA (some a) :: S) h Q ↔ ((zNC ≤ a ∧ zhas 45 (hk h a) = true) ∧ WP 150 0 5 L S (hput h a 45 (vI x)) Q) := wp_put0 rfl rfl
theorem s150_5 : WP 150 0 5 [vA r, a1, a2, a3, a4, a5] S h Q ↔ WP 150 0 6 [vA r, a1, a2, a3, a4, a5] (vA r :: S) h Q := wp_aload rfl rfl
theorem s150_6 : WP 150 0 6 [a0, vI x, a2, a3, a4, a5] S h Q ↔ WP 150 0 7 [a0, vI x, a2, a3, a4, a5] (vI x :: S) h Q := wp_iload rfl rfl
theorem s150_7 : WP 150 0 7 L (vI x0 :: vA (some a) :: S) h Q ↔ ((hk h a).1 = 110 ∧ (zw S ≤ 8 ∧ WP 223 0 0 [vA (some a), vI x0] [] h (zret 150 0 7 10 L S Q))) := wp_V1 (c := 110) rfl rfl (fun _ => rfl) rfl rfl (zcan_of rfl rfl) rfl rfl rfl
theorem s150_10 : WP 150 0 10 L (vI x :: S) h Q ↔ zif (x = 0) (WP 150 0 15 L S h Q) (WP 150 0 13 L S h Q) := wp_bE zc_eq rfl rfl rfl
theorem s150_13 : WP 150 0 13 L S h Q ↔ WP 150 0 14 L (vI 0 :: S) h Q := wp_pl rfl rfl rfl
theorem s150_14 : WP 150 0 14 L [vI x] h Q ↔ ((x = 0 ∨ x = 1) ∧ Q (.inl (some (vI x))) h) := wp_iret rfl rfl
theorem s150_15 : WP 150 0 15 [vA r, a1, a2, a3, a4, a5] S h Q ↔ WP 150 0 16 [vA r, a1, a2, a3, a4, a5] (vA r :: S) h Q := wp_aload rfl rfl
theorem s150_16 : WP 150 0 16 L S h Q ↔ WP 150 0 17 L (vI 0 :: S) h Q := wp_pl rfl rfl rfl
theorem s150_17 : WP 150 0 17 L (vI x :: vA (some a) :: S) h Q ↔ ((zNC ≤ a ∧ zhas 75 (hk h a) = true ∧ (x = 0 ∨ x = 1)) ∧ WP 150 0 20 L S (hput h a 75 (vI x)) Q) := wp_put1 rfl rfl
theorem s150_20 : WP 150 0 20 L S h Q ↔ WP 150 0 21 L (vI 0 :: S) h Q := wp_pl rfl rfl rfl
theorem s150_21 : WP 150 0 21 [a0, a1, a2, a3, a4, a5] (vI x :: S) h Q ↔ WP 150 0 22 [a0, a1, vI x, a3, a4, a5] S h Q := wp_istore rfl rfl rfl
theorem s150_22 : WP 150 0 22 [a0, a1, vI x, a3, a4, a5] S h Q ↔ WP 150 0 23 [a0, a1, vI x, a3, a4, a5] (vI x :: S) h Q := wp_iload rfl rfl
theorem s150_23 : WP 150 0 23 [vA r, a1, a2, a3, a4, a5] S h Q ↔ WP 150 0 24 [vA r, a1, a2, a3, a4, a5] (vA r :: S) h Q := wp_aload rfl rfl
theorem s150_24 : WP 150 0 24 L (vA (some a) :: S) h Q ↔ (zhas 74 (hk h a) = true ∧ WP 150 0 27 L (hm h a 74 :: S) h Q) := wp_if rfl rfl rfl
theorem s150_27 : WP 150 0 27 L (vA (some a) :: S) h Q ↔ ((1 ≤ (hk h a).1 ∧ (hk h a).1 ≤ 7) ∧ WP 150 0 28 L (vI ((hk h a).2 : Int) :: S) h Q) := wp_if rfl rfl rfl
theorem s150_28 : WP 150 0 28 L (vI y :: vI x :: S) h Q ↔ zif (x < y) (WP 150 0 31 L S h Q) (WP 150 0 44 L S h Q) := wp_bN zc_lt rfl rfl rfl
theorem s150_31 : WP 150 0 31 [vA r, a1, a2, a3, a4, a5] S h Q ↔ WP 150 0 32 [vA r, a1, a2, a3, a4, a5] (vA r :: S) h Q := wp_aload rfl rfl
theorem s150_32 : WP 150 0 32 L (vA (some a) :: S) h Q ↔ (zhas 74 (hk h a) = true ∧ WP 150 0 35 L (hm h a 74 :: S) h Q) := wp_if rfl rfl rfl
theorem s150_35 : WP 150 0 35 [a0, a1, vI x, a3, a4, a5] S h Q ↔ WP 150 0 36 [a0, a1, vI x, a3, a4, a5] (vI x :: S) h Q := wp_iload rfl rfl
theorem s150_36 : WP 150 0 36 L S h Q ↔ WP 150 0 37 L (vI 0 :: S) h Q := wp_pl rfl rfl rfl
theorem s150_37 : WP 150 0 37 L (vI y :: vI x :: vA (some a) :: S) h Q ↔ ((((hk h a).1 = 2 ∨ (hk h a).1 = 3) ∧ (0 ≤ x ∧ x < ((hk h a).2 : Int)) ∧ zNC ≤ a ∧ ((hk h a).1 = 3 → y = 0 ∨ y = 1)) ∧ WP 150 0 38 L S (hput h a x.toNat (vI (if (hk h a).1 = 2 then wb y else y))) Q) := wp_if rfl rfl rfl
theorem s150_38 : WP 150 0 38 [a0, a1, vI x, a3, a4, a5] S h Q ↔ WP 150 0 41 [a0, a1, vI (wr (x + 1)), a3, a4, a5] S h Q := wp_iinc rfl rfl rfl
theorem s150_41 : WP 150 0 41 L S h Q ↔ WP 150 0 22 L S h Q := wp_pl rfl rfl rfl
theorem s150_44 : WP 150 0 44 L S h Q ↔ WP 150 0 45 L (vI 1 :: S) h Q := wp_pl rfl rfl rfl
theorem s150_45 : WP 150 0 45 [a0, a1, a2, a3, a4, a5] (vI x :: S) h Q ↔ WP 150 0 46 [a0, a1, vI x, a3, a4, a5] S h Q := wp_istore rfl rfl rfl
theorem s150_46 : WP 150 0 46 L S h Q ↔ WP 150 0 47 L (vI 0 :: S) h Q := wp_pl rfl rfl rfl
theorem s150_47 : WP 150 0 47 [a0, a1, a2, a3, a4, a5] (vI x :: S) h Q ↔ WP 150 0 48 [a0, a1, a2, vI x, a4, a5] S h Q := wp_istore rfl rfl rfl
theorem s150_48 : WP 150 0 48 [a0, a1, a2, vI x, a4, a5] S h Q ↔ WP 150 0 49 [a0, a1, a2, vI x, a4, a5] (vI x :: S) h Q := wp_iload rfl rfl
theorem s150_49 : WP 150 0 49 [vA r, a1, a2, a3, a4, a5] S h Q ↔ WP 150 0 50 [vA r, a1, a2, a3, a4, a5] (vA r :: S) h Q := wp_aload rfl rfl
theorem s150_50 : WP 150 0 50 L (vA (some a) :: S) h Q ↔ (zhas 54 (hk h a) = true ∧ WP 150 0 53 L (hm h a 54 :: S) h Q) := wp_if rfl rfl rfl
theorem s150_53 : WP 150 0 53 L S h Q ↔ WP 150 0 54 L (vI 0 :: S) h Q := wp_pl rfl rfl rfl
theorem s150_54 : WP 150 0 54 L (vI x :: vA (some a) :: S) h Q ↔ (((hk h a).1 = 1 ∧ 0 ≤ x ∧ x < ((hk h a).2 : Int)) ∧ WP 150 0 55 L (hm h a x.toNat :: S) h Q) := wp_if rfl rfl rfl
theorem s150_55 : WP 150 0 55 L (vI y :: vI x :: S) h Q ↔ zif (x < y) (WP 150 0 58 L S h Q) (WP 150 0 102 L S h Q) := wp_bN zc_lt rfl rfl rfl
theorem s150_58 : WP 150 0 58 L S h Q ↔ WP 150 0 59 L (vI 0 :: S) h Q := wp_pl rfl rfl rfl
theorem s150_59 : WP 150 0 59 [a0, a1, a2, a3, a4, a5] (vI x :: S) h Q ↔ WP 150 0 61 [a0, a1, a2, a3, vI x, a5] S h Q := wp_istore rfl rfl rfl
theorem s150_61 : WP 150 0 61 [a0, a1, a2, a3, vI x, a5] S h Q ↔ WP 150 0 63 [a0, a1, a2, a3, vI x, a5] (vI x :: S) h Q := wp_iload rfl rfl
theorem s150_63 : WP 150 0 63 [vA r, a1, a2, a3, a4, a5] S h Q ↔ WP 150 0 64 [vA r, a1, a2, a3, a4, a5] (vA r :: S) h Q := wp_aload rfl rfl
theorem s150_64 : WP 150 0 64 L (vA (some a) :: S) h Q ↔ (zhas 54 (hk h a) = true ∧ WP 150 0 67 L (hm h a 54 :: S) h Q) := wp_if rfl rfl rfl
theorem s150_67 : WP 150 0 67 L S h Q ↔ WP 150 0 68 L (vI 0 :: S) h Q := wp_pl rfl rfl rfl
theorem s150_68 : WP 150 0 68 L (vI x :: vA (some a) :: S) h Q ↔ (((hk h a).1 = 1 ∧ 0 ≤ x ∧ x < ((hk h a).2 : Int)) ∧ WP 150 0 69 L (hm h a x.toNat :: S) h Q) := wp_if rfl rfl rfl
theorem s150_69 : WP 150 0 69 L (vI y :: vI x :: S) h Q ↔ zif (x < y) (WP 150 0 72 L S h Q) (WP 150 0 96 L S h Q) := wp_bN zc_lt rfl rfl rfl
theorem s150_72 : WP 150 0 72 [a0, a1, a2, vI x, a4, a5] S h Q ↔ WP 150 0 73 [a0, a1, a2, vI x, a4, a5] (vI x :: S) h Q := wp_iload rfl rfl
theorem s150_73 : WP 150 0 73 [a0, a1, a2, a3, vI x, a5] S h Q ↔ WP 150 0 75 [a0, a1, a2, a3, vI x, a5] (vI x :: S) h Q := wp_iload rfl rfl
theorem s150_75 : WP 150 0 75 L (vI y :: vI x :: S) h Q ↔ zif (x = y) (WP 150 0 90 L S h Q) (WP 150 0 78 L S h Q) := wp_bE zc_eq rfl rfl rfl
theorem s150_78 : WP 150 0 78 [a0, a1, vI x, a3, a4, a5] S h Q ↔ WP 150 0 79 [a0, a1, vI x, a3, a4, a5] (vI x :: S) h Q := wp_iload rfl rfl
theorem s150_79 : WP 150 0 79 [vA r, a1, a2, a3, a4, a5] S h Q ↔ WP 150 0 80 [vA r, a1, a2, a3, a4, a5] (vA r :: S) h Q := wp_aload rfl rfl
theorem s150_80 : WP 150 0 80 [a0, vI x, a2, a3, a4, a5] S h Q ↔ WP 150 0 81 [a0, vI x, a2, a3, a4, a5] (vI x :: S) h Q := wp_iload rfl rfl
theorem s150_81 : WP 150 0 81 [a0, a1, a2, vI x, a4, a5] S h Q ↔ WP 150 0 82 [a0, a1, a2, vI x, a4, a5] (vI x :: S) h Q := wp_iload rfl rfl
theorem s150_82 : WP 150 0 82 L S h Q ↔ WP 150 0 83 L (vI 0 :: S) h Q := wp_pl rfl rfl rfl
theorem s150_83 : WP 150 0 83 [a0, a1, a2, a3, vI x, a5] S h Q ↔ WP 150 0 85 [a0, a1, a2, a3, vI x, a5] (vI x :: S) h Q := wp_iload rfl rfl
theorem s150_85 : WP 150 0 85 L (vI x3 :: vI x2 :: vI x1 :: vI x0 :: vA (some a) :: S) h Q ↔ ((hk h a).1 = 110 ∧ (zw S ≤ 8 ∧ WP 134 0 0 [vA (some a), vI x0, vI x1, vI x2, vI x3, vJ, vJ, vJ, vJ] [] h (zret 150 0 85 88 L S Q))) := wp_V1 (c := 110) rfl rfl (fun _ => rfl) rfl rfl (zcan_of rfl rfl) rfl rfl rfl
theorem s150_88 : WP 150 0 88 L (vI y :: vI x :: S) h Q ↔ WP 150 0 89 L (vI (zor x y) :: S) h Q := wp_pl rfl rfl rfl
theorem s150_89 : WP 150 0 89 [a0, a1, a2, a3, a4, a5] (vI x :: S) h Q ↔ WP 150 0 90 [a0, a1, vI x, a3, a4, a5] S h Q := wp_istore rfl rfl rfl
theorem s150_90 : WP 150 0 90 [a0, a1, a2, a3, vI x, a5] S h Q ↔ WP 150 0 93 [a0, a1, a2, a3, vI (wr (x + 1)), a5] S h Q := wp_iinc rfl rfl rfl
theorem s150_93 : WP 150 0 93 L S h Q ↔ WP 150 0 61 L S h Q := wp_pl rfl rfl rfl
theorem s150_96 : WP 150 0 96 [a0, a1, a2, vI x, a4, a5] S h Q ↔ WP 150 0 99 [a0, a1, a2, vI (wr (x + 1)), a4, a5] S h Q := wp_iinc rfl rfl rfl
theorem s150_99 : WP 150 0 99 L S h Q ↔ WP 150 0 48 L S h Q := wp_pl rfl rfl rfl
theorem s150_102 : WP 150 0 102 [a0, a1, vI x, a3, a4, a5] S h Q ↔ WP 150 0 103 [a0, a1, vI x, a3, a4, a5] (vI x :: S) h Q := wp_iload rfl rfl
theorem s150_103 : WP 150 0 103 L (vI x :: S) h Q ↔ zif (x = 0) (WP 150 0 207 L S h Q) (WP 150 0 106 L S h Q) := wp_bE zc_eq rfl rfl rfl
theorem s150_106 : WP 150 0 106 [vA r, a1, a2, a3, a4, a5] S h Q ↔ WP 150 0 107 [vA r, a1, a2, a3, a4, a5] (vA r :: S) h Q := wp_aload rfl rfl
theorem s150_107 : WP 150 0 107 L (vA (some a) :: S) h Q ↔ (zhas 75 (hk h a) = true ∧ WP 150 0 110 L (hm h a 75 :: S) h Q) := wp_if rfl rfl rfl
theorem s150_110 : WP 150 0 110 L (vI x :: S) h Q ↔ zif (x = 0) (WP 150 0 113 L S h Q) (WP 150 0 207 L S h Q) := wp_bN zc_eq rfl rfl rfl
theorem s150_113 : WP 150 0 113 L S h Q ↔ WP 150 0 114 L (vI 0 :: S) h Q := wp_pl rfl rfl rfl
theorem s150_114 : WP 150 0 114 [a0, a1, a2, a3, a4, a5] (vI x :: S) h Q ↔ WP 150 0 115 [a0, a1, vI x, a3, a4, a5] S h Q := wp_istore rfl rfl rfl
theorem s150_115 : WP 150 0 115 L S h Q ↔ WP 150 0 116 L (vI 0 :: S) h Q := wp_pl rfl rfl rfl
theorem s150_116 : WP 150 0 116 [a0, a1, a2, a3, a4, a5] (vI x :: S) h Q ↔ WP 150 0 117 [a0, a1, a2, vI x, a4, a5] S h Q := wp_istore rfl rfl rfl
theorem s150_117 : WP 150 0 117 [a0, a1, a2, vI x, a4, a5] S h Q ↔ WP 150 0 118 [a0, a1, a2, vI x, a4, a5] (vI x :: S) h Q := wp_iload rfl rfl
theorem s150_118 : WP 150 0 118 [vA r, a1, a2, a3, a4, a5] S h Q ↔ WP 150 0 119 [vA r, a1, a2, a3, a4, a5] (vA r :: S) h Q := wp_aload rfl rfl
theorem s150_119 : WP 150 0 119 L (vA (some a) :: S) h Q ↔ (zhas 54 (hk h a) = true ∧ WP 150 0 122 L (hm h a 54 :: S) h Q) := wp_if rfl rfl rfl
theorem s150_122 : WP 150 0 122 L S h Q ↔ WP 150 0 123 L (vI 0 :: S) h Q := wp_pl rfl rfl rfl
theorem s150_123 : WP 150 0 123 L (vI x :: vA (some a) :: S) h Q ↔ (((hk h a).1 = 1 ∧ 0 ≤ x ∧ x < ((hk h a).2 : Int)) ∧ WP 150 0 124 L (hm h a x.toNat :: S) h Q) := wp_if rfl rfl rfl
theorem s150_124 : WP 150 0 124 L (vI y :: vI x :: S) h Q ↔ zif (x < y) (WP 150 0 127 L S h Q) (WP 150 0 204 L S h Q) := wp_bN zc_lt rfl rfl rfl
theorem s150_127 : WP 150 0 127 L S h Q ↔ WP 150 0 128 L (vI 1 :: S) h Q := wp_pl rfl rfl rfl
theorem s150_128 : WP 150 0 128 [a0, a1, a2, a3, a4, a5] (vI x :: S) h Q ↔ WP 150 0 130 [a0, a1, a2, a3, vI x, a5] S h Q := wp_istore rfl rfl rfl
theorem s150_130 : WP 150 0 130 [a0, a1, a2, a3, vI x, a5] S h Q ↔ WP 150 0 132 [a0, a1, a2, a3, vI x, a5] (vI x :: S) h Q := wp_iload rfl rfl
theorem s150_132 : WP 150 0 132 [vA r, a1, a2, a3, a4, a5] S h Q ↔ WP 150 0 133 [vA r, a1, a2, a3, a4, a5] (vA r :: S) h Q := wp_aload rfl rfl
theorem s150_133 : WP 150 0 133 [a0, vI x, a2, a3, a4, a5] S h Q ↔ WP 150 0 134 [a0, vI x, a2, a3, a4, a5] (vI x :: S) h Q := wp_iload rfl rfl
theorem s150_134 : WP 150 0 134 [a0, a1, a2, vI x, a4, a5] S h Q ↔ WP 150 0 135 [a0, a1, a2, vI x, a4, a5] (vI x :: S) h Q := wp_iload rfl rfl
theorem s150_135 : WP 150 0 135 L (vI x1 :: vI x0 :: vA (some a) :: S) h Q ↔ ((hk h a).1 = 110 ∧ (zw S ≤ 8 ∧ WP 210 0 0 [vA (some a), vI x0, vI x1] [] h (zret 150 0 135 138 L S Q))) := wp_V1 (c := 110) rfl rfl (fun _ => rfl) rfl rfl (zcan_of rfl rfl) rfl rfl rfl
theorem s150_138 : WP 150 0 138 L (vI y :: vI x :: S) h Q ↔ zif (x < y) (WP 150 0 141 L S h Q) (WP 150 0 198 L S h Q) := wp_bN zc_lt rfl rfl rfl
theorem s150_141 : WP 150 0 141 [vA r, a1, a2, a3, a4, a5] S h Q ↔ WP 150 0 142 [vA r, a1, a2, a3, a4, a5] (vA r :: S) h Q := wp_aload rfl rfl
theorem s150_142 : WP 150 0 142 L (vA (some a) :: S) h Q ↔ (zhas 74 (hk h a) = true ∧ WP 150 0 145 L (hm h a 74 :: S) h Q) := wp_if rfl rfl rfl
theorem s150_145 : WP 150 0 145 L S h Q ↔ WP 150 0 147 L (vI 6 :: S) h Q := wp_pl rfl rfl rfl
theorem s150_147 : WP 150 0 147 [a0, a1, a2, vI x, a4, a5] S h Q ↔ WP 150 0 148 [a0, a1, a2, vI x, a4, a5] (vI x :: S) h Q := wp_iload rfl rfl
theorem s150_148 : WP 150 0 148 L (vI y :: vI x :: S) h Q ↔ WP 150 0 149 L (vI (wr (x * y)) :: S) h Q := wp_pl rfl rfl rfl
theorem s150_149 : WP 150 0 149 [a0, a1, a2, a3, vI x, a5] S h Q ↔ WP 150 0 151 [a0, a1, a2, a3, vI x, a5] (vI x :: S) h Q := wp_iload rfl rfl
theorem s150_151 : WP 150 0 151 L (vI y :: vI x :: S) h Q ↔ WP 150 0 152 L (vI (wr (x + y)) :: S) h Q := wp_pl rfl rfl rfl
theorem s150_152 : WP 150 0 152 L (vI x :: vA (some a) :: S) h Q ↔ ((((hk h a).1 = 2 ∨ (hk h a).1 = 3) ∧ 0 ≤ x ∧ x < ((hk h a).2 : Int)) ∧ WP 150 0 153 L (hm h a x.toNat :: S) h Q) := wp_if rfl rfl rfl
theorem s150_153 : WP 150 0 153 L (vI x :: S) h Q ↔ zif (x = 0) (WP 150 0 156 L S h Q) (WP 150 0 159 L S h Q) := wp_bN zc_eq rfl rfl rfl
theorem s150_156 : WP 150 0 156 L S h Q ↔ WP 150 0 192 L S h Q := wp_pl rfl rfl rfl
theorem s150_159 : WP 150 0 159 L S h Q ↔ WP 150 0 160 L (vI 0 :: S) h Q := wp_pl rfl rfl rfl
theorem s150_160 : WP 150 0 160 [a0, a1, a2, a3, a4, a5] (vI x :: S) h Q ↔ WP 150 0 162 [a0, a1, a2, a3, a4, vI x] S h Q := wp_istore rfl rfl rfl
theorem s150_162 : WP 150 0 162 [a0, a1, a2, a3, a4, vI x] S h Q ↔ WP 150 0 164 [a0, a1, a2, a3, a4, vI x] (vI x :: S) h Q := wp_iload rfl rfl
theorem s150_164 : WP 150 0 164 [vA r, a1, a2, a3, a4, a5] S h Q ↔ WP 150 0 165 [vA r, a1, a2, a3, a4, a5] (vA r :: S) h Q := wp_aload rfl rfl
theorem s150_165 : WP 150 0 165 L (vA (some a) :: S) h Q ↔ (zhas 54 (hk h a) = true ∧ WP 150 0 168 L (hm h a 54 :: S) h Q) := wp_if rfl rfl rfl
theorem s150_168 : WP 150 0 168 L S h Q ↔ WP 150 0 169 L (vI 0 :: S) h Q := wp_pl rfl rfl rfl
theorem s150_169 : WP 150 0 169 L (vI x :: vA (some a) :: S) h Q ↔ (((hk h a).1 = 1 ∧ 0 ≤ x ∧ x < ((hk h a).2 : Int)) ∧ WP 150 0 170 L (hm h a x.toNat :: S) h Q) := wp_if rfl rfl rfl
theorem s150_170 : WP 150 0 170 L (vI y :: vI x :: S) h Q ↔ zif (x < y) (WP 150 0 173 L S h Q) (WP 150 0 192 L S h Q) := wp_bN zc_lt rfl rfl rfl
theorem s150_173 : WP 150 0 173 [a0, a1, vI x, a3, a4, a5] S h Q ↔ WP 150 0 174 [a0, a1, vI x, a3, a4, a5] (vI x :: S) h Q := wp_iload rfl rfl
theorem s150_174 : WP 150 0 174 [vA r, a1, a2, a3, a4, a5] S h Q ↔ WP 150 0 175 [vA r, a1, a2, a3, a4, a5] (vA r :: S) h Q := wp_aload rfl rfl
theorem s150_175 : WP 150 0 175 [a0, vI x, a2, a3, a4, a5] S h Q ↔ WP 150 0 176 [a0, vI x, a2, a3, a4, a5] (vI x :: S) h Q := wp_iload rfl rfl
theorem s150_176 : WP 150 0 176 [a0, a1, a2, vI x, a4, a5] S h Q ↔ WP 150 0 177 [a0, a1, a2, vI x, a4, a5] (vI x :: S) h Q := wp_iload rfl rfl
theorem s150_177 : WP 150 0 177 [a0, a1, a2, a3, vI x, a5] S h Q ↔ WP 150 0 179 [a0, a1, a2, a3, vI x, a5] (vI x :: S) h Q := wp_iload rfl rfl
theorem s150_179 : WP 150 0 179 [a0, a1, a2, a3, a4, vI x] S h Q ↔ WP 150 0 181 [a0, a1, a2, a3, a4, vI x] (vI x :: S) h Q := wp_iload rfl rfl
theorem s150_181 : WP 150 0 181 L (vI x3 :: vI x2 :: vI x1 :: vI x0 :: vA (some a) :: S) h Q ↔ ((hk h a).1 = 110 ∧ (zw S ≤ 8 ∧ WP 134 0 0 [vA (some a), vI x0, vI x1, vI x2, vI x3, vJ, vJ, vJ, vJ] [] h (zret 150 0 181 184 L S Q))) := wp_V1 (c := 110) rfl rfl (fun _ => rfl) rfl rfl (zcan_of rfl rfl) rfl rfl rfl
theorem s150_184 : WP 150 0 184 L (vI y :: vI x :: S) h Q ↔ WP 150 0 185 L (vI (zor x y) :: S) h Q := wp_pl rfl rfl rfl
theorem s150_185 : WP 150 0 185 [a0, a1, a2, a3, a4, a5] (vI x :: S) h Q ↔ WP 150 0 186 [a0, a1, vI x, a3, a4, a5] S h Q := wp_istore rfl rfl rfl
theorem s150_186 : WP 150 0 186 [a0, a1, a2, a3, a4, vI x] S h Q ↔ WP 150 0 189 [a0, a1, a2, a3, a4, vI (wr (x + 1))] S h Q := wp_iinc rfl rfl rfl
theorem s150_189 : WP 150 0 189 L S h Q ↔ WP 150 0 162 L S h Q := wp_pl rfl rfl rfl
theorem s150_192 : WP 150 0 192 [a0, a1, a2, a3, vI x, a5] S h Q ↔ WP 150 0 195 [a0, a1, a2, a3, vI (wr (x + 1)), a5] S h Q := wp_iinc rfl rfl rfl
theorem s150_195 : WP 150 0 195 L S h Q ↔ WP 150 0 130 L S h Q := wp_pl rfl rfl rfl
theorem s150_198 : WP 150 0 198 [a0, a1, a2, vI x, a4, a5] S h Q ↔ WP 150 0 201 [a0, a1, a2, vI (wr (x + 1)), a4, a5] S h Q := wp_iinc rfl rfl rfl
theorem s150_201 : WP 150 0 201 L S h Q ↔ WP 150 0 117 L S h Q := wp_pl rfl rfl rfl
theorem s150_204 : WP 150 0 204 L S h Q ↔ WP 150 0 102 L S h Q := wp_pl rfl rfl rfl
theorem s150_207 : WP 150 0 207 [vA r, a1, a2, a3, a4, a5] S h Q ↔ WP 150 0 208 [vA r, a1, a2, a3, a4, a5] (vA r :: S) h Q := wp_aload rfl rfl
theorem s150_208 : WP 150 0 208 L (vA (some a) :: S) h Q ↔ (zhas 75 (hk h a) = true ∧ WP 150 0 211 L (hm h a 75 :: S) h Q) := wp_if rfl rfl rfl
theorem s150_211 : WP 150 0 211 L (vI x :: S) h Q ↔ zif (x = 0) (WP 150 0 214 L S h Q) (WP 150 0 218 L S h Q) := wp_bN zc_eq rfl rfl rfl
theorem s150_214 : WP 150 0 214 L S h Q ↔ WP 150 0 215 L (vI 1 :: S) h Q := wp_pl rfl rfl rfl
theorem s150_215 : WP 150 0 215 L S h Q ↔ WP 150 0 219 L S h Q := wp_pl rfl rfl rfl
theorem s150_218 : WP 150 0 218 L S h Q ↔ WP 150 0 219 L (vI 0 :: S) h Q := wp_pl rfl rfl rfl
theorem s150_219 : WP 150 0 219 L [vI x] h Q ↔ ((x = 0 ∨ x = 1) ∧ Q (.inl (some (vI x))) h) := wp_iret rfl rfl
/-! RepeatFreeModel.count(I)I -/
theorem s151_0 : WP 151 0 0 [vA r, a1, a2, a3] S h Q ↔ WP 151 0 1 [vA r, a1, a2, a3] (vA r :: S) h Q := wp_aload rfl rfl
theorem s151_1 : WP 151 0 1 L S h Q ↔ WP 151 0 2 L (vI 0 :: S) h Q := wp_pl rfl rfl rfl
theorem s151_2 : WP 151 0 2 L (vI x :: vA (some a) :: S) h Q ↔ ((zNC ≤ a ∧ zhas 45 (hk h a) = true) ∧ WP 151 0 5 L S (hput h a 45 (vI x)) Q) := wp_put0 rfl rfl
theorem s151_5 : WP 151 0 5 L S h Q ↔ WP 151 0 6 L (vI 0 :: S) h Q := wp_pl rfl rfl rfl
theorem s151_6 : WP 151 0 6 [a0, a1, a2, a3] (vI x :: S) h Q ↔ WP 151 0 7 [a0, a1, vI x, a3] S h Q := wp_istore rfl rfl rfl
theorem s151_7 : WP 151 0 7 L S h Q ↔ WP 151 0 8 L (vI 0 :: S) h Q := wp_pl rfl rfl rfl
theorem s151_8 : WP 151 0 8 [a0, a1, a2, a3] (vI x :: S) h Q ↔ WP 151 0 9 [a0, a1, a2, vI x] S h Q := wp_istore rfl rfl rfl
theorem s151_9 : WP 151 0 9 [a0, a1, a2, vI x] S h Q ↔ WP 151 0 10 [a0, a1, a2, vI x] (vI x :: S) h Q := wp_iload rfl rfl
theorem s151_10 : WP 151 0 10 [vA r, a1, a2, a3] S h Q ↔ WP 151 0 11 [vA r, a1, a2, a3] (vA r :: S) h Q := wp_aload rfl rfl
theorem s151_11 : WP 151 0 11 L (vA (some a) :: S) h Q ↔ (zhas 54 (hk h a) = true ∧ WP 151 0 14 L (hm h a 54 :: S) h Q) := wp_if rfl rfl rfl
theorem s151_14 : WP 151 0 14 L S h Q ↔ WP 151 0 15 L (vI 5 :: S) h Q := wp_pl rfl rfl rfl
theorem s151_15 : WP 151 0 15 L (vI x :: vA (some a) :: S) h Q ↔ (((hk h a).1 = 1 ∧ 0 ≤ x ∧ x < ((hk h a).2 : Int)) ∧ WP 151 0 16 L (hm h a x.toNat :: S) h Q) := wp_if rfl rfl rfl
theorem s151_16 : WP 151 0 16 L (vI y :: vI x :: S) h Q ↔ zif (x < y) (WP 151 0 19 L S h Q) (WP 151 0 38 L S h Q) := wp_bN zc_lt rfl rfl rfl
theorem s151_19 : WP 151 0 19 [a0, a1, vI x, a3] S h Q ↔ WP 151 0 20 [a0, a1, vI x, a3] (vI x :: S) h Q := wp_iload rfl rfl
theorem s151_20 : WP 151 0 20 [vA r, a1, a2, a3] S h Q ↔ WP 151 0 21 [vA r, a1, a2, a3] (vA r :: S) h Q := wp_aload rfl rfl
theorem s151_21 : WP 151 0 21 L (vA (some a) :: S) h Q ↔ (zhas 54 (hk h a) = true ∧ WP 151 0 24 L (hm h a 54 :: S) h Q) := wp_if rfl rfl rfl
theorem s151_24 : WP 151 0 24 L S h Q ↔ WP 151 0 27 L (vI 194 :: S) h Q := wp_pl rfl rfl rfl
theorem s151_27 : WP 151 0 27 [a0, a1, a2, vI x] S h Q ↔ WP 151 0 28 [a0, a1, a2, vI x] (vI x :: S) h Q := wp_iload rfl rfl
theorem s151_28 : WP 151 0 28 L (vI y :: vI x :: S) h Q ↔ WP 151 0 29 L (vI (wr (x + y)) :: S) h Q := wp_pl rfl rfl rfl
theorem s151_29 : WP 151 0 29 L (vI x :: vA (some a) :: S) h Q ↔ (((hk h a).1 = 1 ∧ 0 ≤ x ∧ x < ((hk h a).2 : Int)) ∧ WP 151 0 30 L (hm h a x.toNat :: S) h Q) := wp_if rfl rfl rfl
theorem s151_30 : WP 151 0 30 L (vI y :: vI x :: S) h Q ↔ WP 151 0 31 L (vI (wr (x + y)) :: S) h Q := wp_pl rfl rfl rfl
theorem s151_31 : WP 151 0 31 [a0, a1, a2, a3] (vI x :: S) h Q ↔ WP 151 0 32 [a0, a1, vI x, a3] S h Q := wp_istore rfl rfl rfl
theorem s151_32 : WP 151 0 32 [a0, a1, a2, vI x] S h Q ↔ WP 151 0 35 [a0, a1, a2, vI (wr (x + 1))] S h Q := wp_iinc rfl rfl rfl
theorem s151_35 : WP 151 0 35 L S h Q ↔ WP 151 0 9 L S h Q := wp_pl rfl rfl rfl
theorem s151_38 : WP 151 0 38 [a0, vI x, a2, a3] S h Q ↔ WP 151 0 39 [a0, vI x, a2, a3] (vI x :: S) h Q := wp_iload rfl rfl
theorem s151_39 : WP 151 0 39 L (vI x :: S) h Q ↔ WP 151 0 (if 8 < x then 142 else zsw x 0 142 [88, 95, 102, 109, 111, 116, 121, 128, 135]) L S h Q := wp_pl rfl rfl rfl
theorem s151_88 : WP 151 0 88 [vA r, a1, a2, a3] S h Q ↔ WP 151 0 89 [vA r, a1, a2, a3] (vA r :: S) h Q := wp_aload rfl rfl
theorem s151_89 : WP 151 0 89 L (vA (some a) :: S) h Q ↔ (zhas 54 (hk h a) = true ∧ WP 151 0 92 L (hm h a 54 :: S) h Q) := wp_if rfl rfl rfl
theorem s151_92 : WP 151 0 92 L S h Q ↔ WP 151 0 93 L (vI 0 :: S) h Q := wp_pl rfl rfl rfl
theorem s151_93 : WP 151 0 93 L (vI x :: vA (some a) :: S) h Q ↔ (((hk h a).1 = 1 ∧ 0 ≤ x ∧ x < ((hk h a).2 : Int)) ∧ WP 151 0 94 L (hm h a x.toNat :: S) h Q) := wp_if rfl rfl rfl
theorem s151_94 : WP 151 0 94 L [vI x] h Q ↔ Q (.inl (some (vI x))) h := wp_iret0 rfl rfl
theorem s151_95 : WP 151 0 95 [vA r, a1, a2, a3] S h Q ↔ WP 151 0 96 [vA r, a1, a2, a3] (vA r :: S) h Q := wp_aload rfl rfl
theorem s151_96 : WP 151 0 96 L (vA (some a) :: S) h Q ↔ (zhas 54 (hk h a) = true ∧ WP 151 0 99 L (hm h a 54 :: S) h Q) := wp_if rfl rfl rfl
theorem s151_99 : WP 151 0 99 L S h Q ↔ WP 151 0 100 L (vI 4 :: S) h Q := wp_pl rfl rfl rfl
theorem s151_100 : WP 151 0 100 L (vI x :: vA (some a) :: S) h Q ↔ (((hk h a).1 = 1 ∧ 0 ≤ x ∧ x < ((hk h a).2 : Int)) ∧ WP 151 0 101 L (hm h a x.toNat :: S) h Q) := wp_if rfl rfl rfl
theorem s151_101 : WP 151 0 101 L [vI x] h Q ↔ Q (.inl (some (vI x))) h := wp_iret0 rfl rfl
theorem s151_102 : WP 151 0 102 [vA r, a1, a2, a3] S h Q ↔ WP 151 0 103 [vA r, a1, a2, a3] (vA r :: S) h Q := wp_aload rfl rfl
theorem s151_103 : WP 151 0 103 L (vA (some a) :: S) h Q ↔ (zhas 54 (hk h a) = true ∧ WP 151 0 106 L (hm h a 54 :: S) h Q) := wp_if rfl rfl rfl
theorem s151_106 : WP 151 0 106 L S h Q ↔ WP 151 0 107 L (vI 5 :: S) h Q := wp_pl rfl rfl rfl
theorem s151_107 : WP 151 0 107 L (vI x :: vA (some a) :: S) h Q ↔ (((hk h a).1 = 1 ∧ 0 ≤ x ∧ x < ((hk h a).2 : Int)) ∧ WP 151 0 108 L (hm h a x.toNat :: S) h Q) := wp_if rfl rfl rfl
theorem s151_108 : WP 151 0 108 L [vI x] h Q ↔ Q (.inl (some (vI x))) h := wp_iret0 rfl rfl
theorem s151_109 : WP 151 0 109 [a0, a1, vI x, a3] S h Q ↔ WP 151 0 110 [a0, a1, vI x, a3] (vI x :: S) h Q := wp_iload rfl rfl
theorem s151_110 : WP 151 0 110 L [vI x] h Q ↔ Q (.inl (some (vI x))) h := wp_iret0 rfl rfl
theorem s151_111 : WP 151 0 111 [vA r, a1, a2, a3] S h Q ↔ WP 151 0 112 [vA r, a1, a2, a3] (vA r :: S) h Q := wp_aload rfl rfl
theorem s151_112 : WP 151 0 112 L (vA (some a) :: S) h Q ↔ (zhas 59 (hk h a) = true ∧ WP 151 0 115 L (hm h a 59 :: S) h Q) := wp_if rfl rfl rfl
theorem s151_115 : WP 151 0 115 L [vI x] h Q ↔ Q (.inl (some (vI x))) h := wp_iret0 rfl rfl
theorem s151_116 : WP 151 0 116 [vA r, a1, a2, a3] S h Q ↔ WP 151 0 117 [vA r, a1, a2, a3] (vA r :: S) h Q := wp_aload rfl rfl
theorem s151_117 : WP 151 0 117 L (vA (some a) :: S) h Q ↔ (zhas 60 (hk h a) = true ∧ WP 151 0 120 L (hm h a 60 :: S) h Q) := wp_if rfl rfl rfl
theorem s151_120 : WP 151 0 120 L [vI x] h Q ↔ Q (.inl (some (vI x))) h := wp_iret0 rfl rfl
theorem s151_121 : WP 151 0 121 [vA r, a1, a2, a3] S h Q ↔ WP 151 0 122 [vA r, a1, a2, a3] (vA r :: S) h Q := wp_aload rfl rfl
theorem s151_122 : WP 151 0 122 L (vA (some a) :: S) h Q ↔ (zhas 54 (hk h a) = true ∧ WP 151 0 125 L (hm h a 54 :: S) h Q) := wp_if rfl rfl rfl
theorem s151_125 : WP 151 0 125 L S h Q ↔ WP 151 0 126 L (vI 2 :: S) h Q := wp_pl rfl rfl rfl
theorem s151_126 : WP 151 0 126 L (vI x :: vA (some a) :: S) h Q ↔ (((hk h a).1 = 1 ∧ 0 ≤ x ∧ x < ((hk h a).2 : Int)) ∧ WP 151 0 127 L (hm h a x.toNat :: S) h Q) := wp_if rfl rfl rfl
theorem s151_127 : WP 151 0 127 L [vI x] h Q ↔ Q (.inl (some (vI x))) h := wp_iret0 rfl rfl
theorem s151_128 : WP 151 0 128 [vA r, a1, a2, a3] S h Q ↔ WP 151 0 129 [vA r, a1, a2, a3] (vA r :: S) h Q := wp_aload rfl rfl
theorem s151_129 : WP 151 0 129 L (vA (some a) :: S) h Q ↔ (zhas 54 (hk h a) = true ∧ WP 151 0 132 L (hm h a 54 :: S) h Q) := wp_if rfl rfl rfl
theorem s151_132 : WP 151 0 132 L S h Q ↔ WP 151 0 133 L (vI 3 :: S) h Q := wp_pl rfl rfl rfl
theorem s151_133 : WP 151 0 133 L (vI x :: vA (some a) :: S) h Q ↔ (((hk h a).1 = 1 ∧ 0 ≤ x ∧ x < ((hk h a).2 : Int)) ∧ WP 151 0 134 L (hm h a x.toNat :: S) h Q) := wp_if rfl rfl rfl
theorem s151_134 : WP 151 0 134 L [vI x] h Q ↔ Q (.inl (some (vI x))) h := wp_iret0 rfl rfl
theorem s151_135 : WP 151 0 135 [vA r, a1, a2, a3] S h Q ↔ WP 151 0 136 [vA r, a1, a2, a3] (vA r :: S) h Q := wp_aload rfl rfl
theorem s151_136 : WP 151 0 136 L (vA (some a) :: S) h Q ↔ (zhas 54 (hk h a) = true ∧ WP 151 0 139 L (hm h a 54 :: S) h Q) := wp_if rfl rfl rfl
theorem s151_139 : WP 151 0 139 L S h Q ↔ WP 151 0 140 L (vI 1 :: S) h Q := wp_pl rfl rfl rfl
theorem s151_140 : WP 151 0 140 L (vI x :: vA (some a) :: S) h Q ↔ (((hk h a).1 = 1 ∧ 0 ≤ x ∧ x < ((hk h a).2 : Int)) ∧ WP 151 0 141 L (hm h a x.toNat :: S) h Q) := wp_if rfl rfl rfl
theorem s151_141 : WP 151 0 141 L [vI x] h Q ↔ Q (.inl (some (vI x))) h := wp_iret0 rfl rfl
theorem s151_142 : WP 151 0 142 L S h Q ↔ WP 151 0 143 L (vI (-1) :: S) h Q := wp_pl rfl rfl rfl
theorem s151_143 : WP 151 0 143 L [vI x] h Q ↔ Q (.inl (some (vI x))) h := wp_iret0 rfl rfl
/-! RepeatFreeModel.countBy(II)I -/
theorem s152_0 : WP 152 0 0 [vA r, a1, a2, a3] S h Q ↔ WP 152 0 1 [vA r, a1, a2, a3] (vA r :: S) h Q := wp_aload rfl rfl
theorem s152_1 : WP 152 0 1 L (vA (some a) :: S) h Q ↔ ((hk h a).1 = 110 ∧ (zw S ≤ 8 ∧ WP 243 0 0 [vA (some a)] [] h (zret 152 0 1 4 L S Q))) := wp_V1 (c := 110) rfl rfl (fun _ => rfl) rfl rfl (zcan_of rfl rfl) rfl rfl rfl
theorem s152_4 : WP 152 0 4 [vA r, a1, a2, a3] S h Q ↔ WP 152 0 5 [vA r, a1, a2, a3] (vA r :: S) h Q := wp_aload rfl rfl
theorem s152_5 : WP 152 0 5 L S h Q ↔ WP 152 0 6 L (vI 0 :: S) h Q := wp_pl rfl rfl rfl
theorem s152_6 : WP 152 0 6 [a0, vI x, a2, a3] S h Q ↔ WP 152 0 7 [a0, vI x, a2, a3] (vI x :: S) h Q := wp_iload rfl rfl
theorem s152_7 : WP 152 0 7 [a0, a1, vI x, a3] S h Q ↔ WP 152 0 8 [a0, a1, vI x, a3] (vI x :: S) h Q := wp_iload rfl rfl
theorem s152_8 : WP 152 0 8 L (vI x2 :: vI x1 :: vI x0 :: vA (some a) :: S) h Q ↔ ((hk h a).1 = 110 ∧ (zw S ≤ 8 ∧ WP 241 44 0 [vA (some a), vI x0, vI x1, vI x2, vJ] [] h (zret 152 0 8 11 L S Q))) := wp_V1 (c := 110) rfl rfl (fun _ => rfl) rfl rfl (zcan_of rfl rfl) rfl rfl rfl
theorem s152_11 : WP 152 0 11 [a0, a1, a2, a3] (vI x :: S) h Q ↔ WP 152 0 12 [a0, a1, a2, vI x] S h Q := wp_istore rfl rfl rfl
theorem s152_12 : WP 152 0 12 [vA r, a1, a2, a3] S h Q ↔ WP 152 0 13 [vA r, a1, a2, a3] (vA r :: S) h Q := wp_aload rfl rfl
theorem s152_13 : WP 152 0 13 L (vA (some a) :: S) h Q ↔ (zhas 67 (hk h a) = true ∧ WP 152 0 16 L (hm h a 67 :: S) h Q) := wp_if rfl rfl rfl
theorem s152_16 : WP 152 0 16 L (vI x :: S) h Q ↔ zif (x = 0) (WP 152 0 24 L S h Q) (WP 152 0 19 L S h Q) := wp_bE zc_eq rfl rfl rfl
theorem s152_19 : WP 152 0 19 L S h Q ↔ WP 152 0 21 L (vI (-2) :: S) h Q := wp_pl rfl rfl rfl
theorem s152_21 : WP 152 0 21 L S h Q ↔ WP 152 0 28 L S h Q := wp_pl rfl rfl rfl
theorem s152_24 : WP 152 0 24 [vA r, a1, a2, a3] S h Q ↔ WP 152 0 25 [vA r, a1, a2, a3] (vA r :: S) h Q := wp_aload rfl rfl
theorem s152_25 : WP 152 0 25 L (vA (some a) :: S) h Q ↔ (zhas 66 (hk h a) = true ∧ WP 152 0 28 L (hm h a 66 :: S) h Q) := wp_if rfl rfl rfl
theorem s152_28 : WP 152 0 28 L [vI x] h Q ↔ Q (.inl (some (vI x))) h := wp_iret0 rfl rfl
/-! RepeatFreeModel.doesBreak(I)Z -/
theorem s153_0 : WP 153 0 0 [vA r, a1, a2] S h Q ↔ WP 153 0 1 [vA r, a1, a2] (vA r :: S) h Q := wp_aload rfl rfl
theorem s153_1 : WP 153 0 1 [vA r, a1, a2] S h Q ↔ WP 153 0 2 [vA r, a1, a2] (vA r :: S) h Q := wp_aload rfl rfl
theorem s153_2 : WP 153 0 2 L (vA (some a) :: S) h Q ↔ (zhas 64 (hk h a) = true ∧ WP 153 0 5 L (hm h a 64 :: S) h Q) := wp_if rfl rfl rfl
theorem s153_5 : WP 153 0 5 [a0, vI x, a2] S h Q ↔ WP 153 0 6 [a0, vI x, a2] (vI x :: S) h Q := wp_iload rfl rfl
theorem s153_6 : WP 153 0 6 [vA r, a1, a2] S h Q ↔ WP 153 0 7 [vA r, a1, a2] (vA r :: S) h Q := wp_aload rfl rfl
theorem s153_7 : WP 153 0 7 L (vA (some a) :: S) h Q ↔ (zhas 69 (hk h a) = true ∧ WP 153 0 10 L (hm h a 69 :: S) h Q) := wp_if rfl rfl rfl
theorem s153_10 : WP 153 0 10 L (vI x2 :: vI x1 :: vA r0 :: vA (some a) :: S) h Q ↔ ((hk h a).1 = 110 ∧ (zw S ≤ 8 ∧ WP 182 0 0 [vA (some a), vA r0, vI x1, vI x2, vJ, vJ, vJ] [] h (zret 153 0 10 13 L S Q))) := wp_V1 (c := 110) rfl rfl (fun _ => rfl) rfl rfl (zcan_of rfl rfl) rfl rfl rfl
theorem s153_13 : WP 153 0 13 [a0, a1, a2] (vI x :: S) h Q ↔ WP 153 0 14 [a0, a1, vI x] S h Q := wp_istore rfl rfl rfl
theorem s153_14 : WP 153 0 14 [vA r, a1, a2] S h Q ↔ WP 153 0 15 [vA r, a1, a2] (vA r :: S) h Q := wp_aload rfl rfl
theorem s153_15 : WP 153 0 15 [vA r, a1, a2] S h Q ↔ WP 153 0 16 [vA r, a1, a2] (vA r :: S) h Q := wp_aload rfl rfl
theorem s153_16 : WP 153 0 16 L (vA (some a) :: S) h Q ↔ (zhas 71 (hk h a) = true ∧ WP 153 0 19 L (hm h a 71 :: S) h Q) := wp_if rfl rfl rfl
theorem s153_19 : WP 153 0 19 [a0, a1, vI x] S h Q ↔ WP 153 0 20 [a0, a1, vI x] (vI x :: S) h Q := wp_iload rfl rfl
theorem s153_20 : WP 153 0 20 L (vI x1 :: vA r0 :: vA (some a) :: S) h Q ↔ ((hk h a).1 = 110 ∧ (zw S ≤ 8 ∧ WP 169 0 0 [vA (some a), vA r0, vI x1, vJ] [] h (zret 153 0 20 23 L S Q))) := wp_V1 (c := 110) rfl rfl (fun _ => rfl) rfl rfl (zcan_of rfl rfl) rfl rfl rfl
theorem s153_23 : WP 153 0 23 [a0, a1, vI x] S h Q ↔ WP 153 0 24 [a0, a1, vI x] (vI x :: S) h Q := wp_iload rfl rfl
theorem s153_24 : WP 153 0 24 L (vI y :: vI x :: S) h Q ↔ zif (x < y) (WP 153 0 27 L S h Q) (WP 153 0 31 L S h Q) := wp_bN zc_lt rfl rfl rfl
theorem s153_27 : WP 153 0 27 L S h Q ↔ WP 153 0 28 L (vI 1 :: S) h Q := wp_pl rfl rfl rfl
theorem s153_28 : WP 153 0 28 L S h Q ↔ WP 153 0 32 L S h Q := wp_pl rfl rfl rfl
theorem s153_31 : WP 153 0 31 L S h Q ↔ WP 153 0 32 L (vI 0 :: S) h Q := wp_pl rfl rfl rfl
theorem s153_32 : WP 153 0 32 L [vI x] h Q ↔ ((x = 0 ∨ x = 1) ∧ Q (.inl (some (vI x))) h) := wp_iret rfl rfl
/-! RepeatFreeModel.doesGrow(II)Z -/
theorem s154_0 : WP 154 0 0 [vA r, a1, a2] S h Q ↔ WP 154 0 1 [vA r, a1, a2] (vA r :: S) h Q := wp_aload rfl rfl
theorem s154_1 : WP 154 0 1 [a0, vI x, a2] S h Q ↔ WP 154 0 2 [a0, vI x, a2] (vI x :: S) h Q := wp_iload rfl rfl
theorem s154_2 : WP 154 0 2 [a0, a1, vI x] S h Q ↔ WP 154 0 3 [a0, a1, vI x] (vI x :: S) h Q := wp_iload rfl rfl
theorem s154_3 : WP 154 0 3 L (vI x1 :: vI x0 :: vA (some a) :: S) h Q ↔ ((hk h a).1 = 110 ∧ (zw S ≤ 8 ∧ WP 210 0 0 [vA (some a), vI x0, vI x1] [] h (zret 154 0 3 6 L S Q))) := wp_V1 (c := 110) rfl rfl (fun _ => rfl) rfl rfl (zcan_of rfl rfl) rfl rfl rfl
theorem s154_6 : WP 154 0 6 L S h Q ↔ WP 154 0 7 L (vI 1 :: S) h Q := wp_pl rfl rfl rfl
theorem s154_7 : WP 154 0 7 L (vI y :: vI x :: S) h Q ↔ zif (y < x) (WP 154 0 10 L S h Q) (WP 154 0 25 L S h Q) := wp_bN zc_gt rfl rfl rfl
theorem s154_10 : WP 154 0 10 [vA r, a1, a2] S h Q ↔ WP 154 0 11 [vA r, a1, a2] (vA r :: S) h Q := wp_aload rfl rfl
theorem s154_11 : WP 154 0 11 [a0, vI x, a2] S h Q ↔ WP 154 0 12 [a0, vI x, a2] (vI x :: S) h Q := wp_iload rfl rfl
theorem s154_12 : WP 154 0 12 [a0, a1, vI x] S h Q ↔ WP 154 0 13 [a0, a1, vI x] (vI x :: S) h Q := wp_iload rfl rfl
theorem s154_13 : WP 154 0 13 L S h Q ↔ WP 154 0 14 L (vI 0 :: S) h Q := wp_pl rfl rfl rfl
theorem s154_14 : WP 154 0 14 L (vI x2 :: vI x1 :: vI x0 :: vA (some a) :: S) h Q ↔ ((hk h a).1 = 110 ∧ (zw S ≤ 8 ∧ WP 180 0 0 [vA (some a), vI x0, vI x1, vI x2] [] h (zret 154 0 14 17 L S Q))) := wp_V1 (c := 110) rfl rfl (fun _ => rfl) rfl rfl (zcan_of rfl rfl) rfl rfl rfl
theorem s154_17 : WP 154 0 17 [a0, a1, vI x] S h Q ↔ WP 154 0 18 [a0, a1, vI x] (vI x :: S) h Q := wp_iload rfl rfl
theorem s154_18 : WP 154 0 18 L (vI y :: vI x :: S) h Q ↔ zif (x = y) (WP 154 0 21 L S h Q) (WP 154 0 25 L S h Q) := wp_bN zc_eq rfl rfl rfl
theorem s154_21 : WP 154 0 21 L S h Q ↔ WP 154 0 22 L (vI 1 :: S) h Q := wp_pl rfl rfl rfl
theorem s154_22 : WP 154 0 22 L S h Q ↔ WP 154 0 26 L S h Q := wp_pl rfl rfl rfl
theorem s154_25 : WP 154 0 25 L S h Q ↔ WP 154 0 26 L (vI 0 :: S) h Q := wp_pl rfl rfl rfl
theorem s154_26 : WP 154 0 26 L [vI x] h Q ↔ ((x = 0 ∨ x = 1) ∧ Q (.inl (some (vI x))) h) := wp_iret rfl rfl
/-! RepeatFreeModel.end(I)Z -/
theorem s155_0 : WP 155 0 0 [vA r, a1] S h Q ↔ WP 155 0 1 [vA r, a1] (vA r :: S) h Q := wp_aload rfl rfl
theorem s155_1 : WP 155 0 1 L S h Q ↔ WP 155 0 2 L (vI 0 :: S) h Q := wp_pl rfl rfl rfl
theorem s155_2 : WP 155 0 2 L (vI x :: vA (some a) :: S) h Q ↔ ((zNC ≤ a ∧ zhas 45 (hk h a) = true) ∧ WP 155 0 5 L S (hput h a 45 (vI x)) Q) := wp_put0 rfl rfl
theorem s155_5 : WP 155 0 5 [a0, vI x] S h Q ↔ WP 155 0 6 [a0, vI x] (vI x :: S) h Q := wp_iload rfl rfl
theorem s155_6 : WP 155 0 6 L (vI x :: S) h Q ↔ zif (x < 0) (WP 155 0 17 L S h Q) (WP 155 0 9 L S h Q) := wp_bE zc_lt rfl rfl rfl
theorem s155_9 : WP 155 0 9 [a0, vI x] S h Q ↔ WP 155 0 10 [a0, vI x] (vI x :: S) h Q := wp_iload rfl rfl
theorem s155_10 : WP 155 0 10 [vA r, a1] S h Q ↔ WP 155 0 11 [vA r, a1] (vA r :: S) h Q := wp_aload rfl rfl
theorem s155_11 : WP 155 0 11 L (vA (some a) :: S) h Q ↔ (zhas 47 (hk h a) = true ∧ WP 155 0 14 L (hm h a 47 :: S) h Q) := wp_if rfl rfl rfl
theorem s155_14 : WP 155 0 14 L (vI y :: vI x :: S) h Q ↔ zif (y < x) (WP 155 0 17 L S h Q) (WP 155 0 19 L S h Q) := wp_bN zc_gt rfl rfl rfl
theorem s155_17 : WP 155 0 17 L S h Q ↔ WP 155 0 18 L (vI 0 :: S) h Q := wp_pl rfl rfl rfl
theorem s155_18 : WP 155 0 18 L [vI x] h Q ↔ ((x = 0 ∨ x = 1) ∧ Q (.inl (some (vI x))) h) := wp_iret rfl rfl
theorem s155_19 : WP 155 0 19 [vA r, a1] S h Q ↔ WP 155 0 20 [vA r, a1] (vA r :: S) h Q := wp_aload rfl rfl
theorem s155_20 : WP 155 0 20 [a0, vI x] S h Q ↔ WP 155 0 21 [a0, vI x] (vI x :: S) h Q := wp_iload rfl rfl
theorem s155_21 : WP 155 0 21 L (vI x :: vA (some a) :: S) h Q ↔ ((zNC ≤ a ∧ zhas 47 (hk h a) = true) ∧ WP 155 0 24 L S (hput h a 47 (vI x)) Q) := wp_put0 rfl rfl
theorem s155_24 : WP 155 0 24 L S h Q ↔ WP 155 0 25 L (vI 1 :: S) h Q := wp_pl rfl rfl rfl
theorem s155_25 : WP 155 0 25 L [vI x] h Q ↔ ((x = 0 ∨ x = 1) ∧ Q (.inl (some (vI x))) h) := wp_iret rfl rfl
/-! RepeatFreeModel.endOf(I)I -/
theorem s156_0 : WP 156 0 0 [a0, vI x, a2] S h Q ↔ WP 156 0 1 [a0, vI x, a2] (vI x :: S) h Q := wp_iload rfl rfl
theorem s156_1 : WP 156 0 1 [a0, a1, a2] (vI x :: S) h Q ↔ WP 156 0 2 [a0, a1, vI x] S h Q := wp_istore rfl rfl rfl
theorem s156_2 : WP 156 0 2 [vA r, a1, a2] S h Q ↔ WP 156 0 3 [vA r, a1, a2] (vA r :: S) h Q := wp_aload rfl rfl
theorem s156_3 : WP 156 0 3 L (vA (some a) :: S) h Q ↔ (zhas 76 (hk h a) = true ∧ WP 156 0 6 L (hm h a 76 :: S) h Q) := wp_if rfl rfl rfl
theorem s156_6 : WP 156 0 6 [a0, a1, vI x] S h Q ↔ WP 156 0 7 [a0, a1, vI x] (vI x :: S) h Q := wp_iload rfl rfl
theorem s156_7 : WP 156 0 7 L (vI x :: vA (some a) :: S) h Q ↔ (((hk h a).1 = 1 ∧ 0 ≤ x ∧ x < ((hk h a).2 : Int)) ∧ WP 156 0 8 L (hm h a x.toNat :: S) h Q) := wp_if rfl rfl rfl
theorem s156_8 : WP 156 0 8 [a0, a1, vI x] S h Q ↔ WP 156 0 9 [a0, a1, vI x] (vI x :: S) h Q := wp_iload rfl rfl
theorem s156_9 : WP 156 0 9 L (vI y :: vI x :: S) h Q ↔ zif (x = y) (WP 156 0 22 L S h Q) (WP 156 0 12 L S h Q) := wp_bE zc_eq rfl rfl rfl
theorem s156_12 : WP 156 0 12 [vA r, a1, a2] S h Q ↔ WP 156 0 13 [vA r, a1, a2] (vA r :: S) h Q := wp_aload rfl rfl
theorem s156_13 : WP 156 0 13 L (vA (some a) :: S) h Q ↔ (zhas 76 (hk h a) = true ∧ WP 156 0 16 L (hm h a 76 :: S) h Q) := wp_if rfl rfl rfl
theorem s156_16 : WP 156 0 16 [a0, a1, vI x] S h Q ↔ WP 156 0 17 [a0, a1, vI x] (vI x :: S) h Q := wp_iload rfl rfl
theorem s156_17 : WP 156 0 17 L (vI x :: vA (some a) :: S) h Q ↔ (((hk h a).1 = 1 ∧ 0 ≤ x ∧ x < ((hk h a).2 : Int)) ∧ WP 156 0 18 L (hm h a x.toNat :: S) h Q) := wp_if rfl rfl rfl
theorem s156_18 : WP 156 0 18 [a0, a1, a2] (vI x :: S) h Q ↔ WP 156 0 19 [a0, a1, vI x] S h Q := wp_istore rfl rfl rfl
theorem s156_19 : WP 156 0 19 L S h Q ↔ WP 156 0 2 L S h Q := wp_pl rfl rfl rfl
theorem s156_22 : WP 156 0 22 [a0, a1, vI x] S h Q ↔ WP 156 0 23 [a0, a1, vI x] (vI x :: S) h Q := wp_iload rfl rfl
theorem s156_23 : WP 156 0 23 L [vI x] h Q ↔ Q (.inl (some (vI x))) h := wp_iret0 rfl rfl
/-! RepeatFreeModel.ends()I -/
theorem s157_0 : WP 157 0 0 [vA r] S h Q ↔ WP 157 0 1 [vA r] (vA r :: S) h Q := wp_aload rfl rfl
theorem s157_1 : WP 157 0 1 L S h Q ↔ WP 157 0 2 L (vI 0 :: S) h Q := wp_pl rfl rfl rfl
theorem s157_2 : WP 157 0 2 L (vI x :: vA (some a) :: S) h Q ↔ ((zNC ≤ a ∧ zhas 45 (hk h a) = true) ∧ WP 157 0 5 L S (hput h a 45 (vI x)) Q) := wp_put0 rfl rfl
theorem s157_5 : WP 157 0 5 [vA r] S h Q ↔ WP 157 0 6 [vA r] (vA r :: S) h Q := wp_aload rfl rfl
theorem s157_6 : WP 157 0 6 L (vA (some a) :: S) h Q ↔ ((hk h a).1 = 110 ∧ (zw S ≤ 8 ∧ WP 158 0 0 [vA (some a), vJ] [] h (zret 157 0 6 9 L S Q))) := wp_V1 (c := 110) rfl rfl (fun _ => rfl) rfl rfl (zcan_of rfl rfl) rfl rfl rfl
theorem s157_9 : WP 157 0 9 L [vI x] h Q ↔ Q (.inl (some (vI x))) h := wp_iret0 rfl rfl
/-! RepeatFreeModel.endsAt()I -/
theorem s158_0 : WP 158 0 0 [vA r, a1] S h Q ↔ WP 158 0 1 [vA r, a1] (vA r :: S) h Q := wp_aload rfl rfl
theorem s158_1 : WP 158 0 1 [vA r, a1] S h Q ↔ WP 158 0 2 [vA r, a1] (vA r :: S) h Q := wp_aload rfl rfl
theorem s158_2 : WP 158 0 2 L (vA (some a) :: S) h Q ↔ (zhas 57 (hk h a) = true ∧ WP 158 0 5 L (hm h a 57 :: S) h Q) := wp_if rfl rfl rfl
theorem s158_5 : WP 158 0 5 [vA r, a1] S h Q ↔ WP 158 0 6 [vA r, a1] (vA r :: S) h Q := wp_aload rfl rfl
theorem s158_6 : WP 158 0 6 L (vA (some a) :: S) h Q ↔ (zhas 59 (hk h a) = true ∧ WP 158 0 9 L (hm h a 59 :: S) h Q) := wp_if rfl rfl rfl
theorem s158_9 : WP 158 0 9 L (vI x1 :: vA r0 :: vA (some a) :: S) h Q ↔ ((hk h a).1 = 110 ∧ (zw S ≤ 8 ∧ WP 169 0 0 [vA (some a), vA r0, vI x1, vJ] [] h (zret 158 0 9 12 L S Q))) := wp_V1 (c := 110) rfl rfl (fun _ => rfl) rfl rfl (zcan_of rfl rfl) rfl rfl rfl
theorem s158_12 : WP 158 0 12 [a0, a1] (vI x :: S) h Q ↔ WP 158 0 13 [a0, vI x] S h Q := wp_istore rfl rfl rfl
theorem s158_13 : WP 158 0 13 [a0, vI x] S h Q ↔ WP 158 0 14 [a0, vI x] (vI x :: S) h Q := wp_iload rfl rfl
theorem s158_14 : WP 158 0 14 [vA r, a1] S h Q ↔ WP 158 0 15 [vA r, a1] (vA r :: S) h Q := wp_aload rfl rfl
theorem s158_15 : WP 158 0 15 L (vA (some a) :: S) h Q ↔ (zhas 59 (hk h a) = true ∧ WP 158 0 18 L (hm h a 59 :: S) h Q) := wp_if rfl rfl rfl
theorem s158_18 : WP 158 0 18 L (vI y :: vI x :: S) h Q ↔ zif (x = y) (WP 158 0 21 L S h Q) (WP 158 0 25 L S h Q) := wp_bN zc_eq rfl rfl rfl
theorem s158_21 : WP 158 0 21 L S h Q ↔ WP 158 0 22 L (vI (-1) :: S) h Q := wp_pl rfl rfl rfl
theorem s158_22 : WP 158 0 22 L S h Q ↔ WP 158 0 26 L S h Q := wp_pl rfl rfl rfl
theorem s158_25 : WP 158 0 25 [a0, vI x] S h Q ↔ WP 158 0 26 [a0, vI x] (vI x :: S) h Q := wp_iload rfl rfl
theorem s158_26 : WP 158 0 26 L [vI x] h Q ↔ Q (.inl (some (vI x))) h := wp_iret0 rfl rfl
/-! RepeatFreeModel.endsBy([III)Z -/
theorem s159_0 : WP 159 0 0 [vA r, a1, a2, a3, a4] S h Q ↔ WP 159 0 1 [vA r, a1, a2, a3, a4] (vA r :: S) h Q := wp_aload rfl rfl
theorem s159_1 : WP 159 0 1 [a0, a1, a2, vI x, a4] S h Q ↔ WP 159 0 2 [a0, a1, a2, vI x, a4] (vI x :: S) h Q := wp_iload rfl rfl
theorem s159_2 : WP 159 0 2 [a0, a1, vI x, a3, a4] S h Q ↔ WP 159 0 3 [a0, a1, vI x, a3, a4] (vI x :: S) h Q := wp_iload rfl rfl
theorem s159_3 : WP 159 0 3 L (vI x1 :: vI x0 :: vA (some a) :: S) h Q ↔ ((hk h a).1 = 110 ∧ (zw S ≤ 8 ∧ WP 166 0 0 [vA (some a), vI x0, vI x1, vJ] [] h (zret 159 0 3 6 L S Q))) := wp_V1 (c := 110) rfl rfl (fun _ => rfl) rfl rfl (zcan_of rfl rfl) rfl rfl rfl
theorem s159_6 : WP 159 0 6 [a0, a1, a2, a3, a4] (vI x :: S) h Q ↔ WP 159 0 8 [a0, a1, a2, a3, vI x] S h Q := wp_istore rfl rfl rfl
theorem s159_8 : WP 159 0 8 [a0, a1, a2, a3, vI x] S h Q ↔ WP 159 0 10 [a0, a1, a2, a3, vI x] (vI x :: S) h Q := wp_iload rfl rfl
theorem s159_10 : WP 159 0 10 L (vI x :: S) h Q ↔ zif (x = 0) (WP 159 0 42 L S h Q) (WP 159 0 13 L S h Q) := wp_bE zc_eq rfl rfl rfl
theorem s159_13 : WP 159 0 13 [vA r, a1, a2, a3, a4] S h Q ↔ WP 159 0 14 [vA r, a1, a2, a3, a4] (vA r :: S) h Q := wp_aload rfl rfl
theorem s159_14 : WP 159 0 14 [a0, vA r, a2, a3, a4] S h Q ↔ WP 159 0 15 [a0, vA r, a2, a3, a4] (vA r :: S) h Q := wp_aload rfl rfl
theorem s159_15 : WP 159 0 15 [a0, a1, vI x, a3, a4] S h Q ↔ WP 159 0 16 [a0, a1, vI x, a3, a4] (vI x :: S) h Q := wp_iload rfl rfl
theorem s159_16 : WP 159 0 16 [vA r, a1, a2, a3, a4] S h Q ↔ WP 159 0 17 [vA r, a1, a2, a3, a4] (vA r :: S) h Q := wp_aload rfl rfl
theorem s159_17 : WP 159 0 17 [a0, a1, a2, vI x, a4] S h Q ↔ WP 159 0 18 [a0, a1, a2, vI x, a4] (vI x :: S) h Q := wp_iload rfl rfl
theorem s159_18 : WP 159 0 18 L (vI x0 :: vA (some a) :: S) h Q ↔ ((hk h a).1 = 110 ∧ (zw S ≤ 8 ∧ WP 209 0 0 [vA (some a), vI x0, vJ, vJ] [] h (zret 159 0 18 21 L S Q))) := wp_V1 (c := 110) rfl rfl (fun _ => rfl) rfl rfl (zcan_of rfl rfl) rfl rfl rfl
theorem s159_21 : WP 159 0 21 L (vI y :: vI x :: S) h Q ↔ WP 159 0 22 L (vI (wr (x - y)) :: S) h Q := wp_pl rfl rfl rfl
theorem s159_22 : WP 159 0 22 [a0, a1, a2, vI x, a4] S h Q ↔ WP 159 0 23 [a0, a1, a2, vI x, a4] (vI x :: S) h Q := wp_iload rfl rfl
theorem s159_23 : WP 159 0 23 L (vI x2 :: vI x1 :: vA r0 :: vA (some a) :: S) h Q ↔ ((hk h a).1 = 110 ∧ (zw S ≤ 8 ∧ WP 167 0 0 [vA (some a), vA r0, vI x1, vI x2, vJ, vJ, vJ, vJ] [] h (zret 159 0 23 26 L S Q))) := wp_V1 (c := 110) rfl rfl (fun _ => rfl) rfl rfl (zcan_of rfl rfl) rfl rfl rfl
theorem s159_26 : WP 159 0 26 L (vI x :: S) h Q ↔ zif (x = 0) (WP 159 0 31 L S h Q) (WP 159 0 29 L S h Q) := wp_bE zc_eq rfl rfl rfl
theorem s159_29 : WP 159 0 29 L S h Q ↔ WP 159 0 30 L (vI 1 :: S) h Q := wp_pl rfl rfl rfl
theorem s159_30 : WP 159 0 30 L [vI x] h Q ↔ ((x = 0 ∨ x = 1) ∧ Q (.inl (some (vI x))) h) := wp_iret rfl rfl
theorem s159_31 : WP 159 0 31 [vA r, a1, a2, a3, a4] S h Q ↔ WP 159 0 32 [vA r, a1, a2, a3, a4] (vA r :: S) h Q := wp_aload rfl rfl
theorem s159_32 : WP 159 0 32 [a0, a1, a2, vI x, a4] S h Q ↔ WP 159 0 33 [a0, a1, a2, vI x, a4] (vI x :: S) h Q := wp_iload rfl rfl
theorem s159_33 : WP 159 0 33 [a0, a1, vI x, a3, a4] S h Q ↔ WP 159 0 34 [a0, a1, vI x, a3, a4] (vI x :: S) h Q := wp_iload rfl rfl
theorem s159_34 : WP 159 0 34 L (vI x1 :: vI x0 :: vA (some a) :: S) h Q ↔ ((hk h a).1 = 110 ∧ (zw S ≤ 8 ∧ WP 221 0 0 [vA (some a), vI x0, vI x1, vJ] [] h (zret 159 0 34 37 L S Q))) := wp_V1 (c := 110) rfl rfl (fun _ => rfl) rfl rfl (zcan_of rfl rfl) rfl rfl rfl
theorem s159_37 : WP 159 0 37 [a0, a1, a2, a3, a4] (vI x :: S) h Q ↔ WP 159 0 39 [a0, a1, a2, a3, vI x] S h Q := wp_istore rfl rfl rfl
theorem s159_39 : WP 159 0 39 L S h Q ↔ WP 159 0 8 L S h Q := wp_pl rfl rfl rfl
theorem s159_42 : WP 159 0 42 L S h Q ↔ WP 159 0 43 L (vI 0 :: S) h Q := wp_pl rfl rfl rfl
theorem s159_43 : WP 159 0 43 L [vI x] h Q ↔ ((x = 0 ∨ x = 1) ∧ Q (.inl (some (vI x))) h) := wp_iret rfl rfl
/-! RepeatFreeModel.factors(I)I -/
theorem s160_0 : WP 160 0 0 [vA r, a1, a2, a3, a4, a5] S h Q ↔ WP 160 0 1 [vA r, a1, a2, a3, a4, a5] (vA r :: S) h Q := wp_aload rfl rfl
theorem s160_1 : WP 160 0 1 L S h Q ↔ WP 160 0 2 L (vI 0 :: S) h Q := wp_pl rfl rfl rfl
theorem s160_2 : WP 160 0 2 L (vI x :: vA (some a) :: S) h Q ↔ ((zNC ≤ a ∧ zhas 45 (hk h a) = true) ∧ WP 160 0 5 L S (hput h a 45 (vI x)) Q) := wp_put0 rfl rfl
theorem s160_5 : WP 160 0 5 [vA r, a1, a2, a3, a4, a5] S h Q ↔ WP 160 0 6 [vA r, a1, a2, a3, a4, a5] (vA r :: S) h Q := wp_aload rfl rfl
theorem s160_6 : WP 160 0 6 [a0, vI x, a2, a3, a4, a5] S h Q ↔ WP 160 0 7 [a0, vI x, a2, a3, a4, a5] (vI x :: S) h Q := wp_iload rfl rfl
theorem s160_7 : WP 160 0 7 L S h Q ↔ WP 160 0 8 L (vI 1 :: S) h Q := wp_pl rfl rfl rfl
theorem s160_8 : WP 160 0 8 L S h Q ↔ WP 160 0 10 L (vI 64 :: S) h Q := wp_pl rfl rfl rfl
theorem s160_10 : WP 160 0 10 L (vI x2 :: vI x1 :: vI x0 :: S) h Q ↔ (zw S ≤ 8 ∧ WP 183 0 0 [vI x0, vI x1, vI x2] [] h (zret 160 0 10 13 L S Q)) := wp_S rfl rfl (zcan_of rfl rfl) rfl rfl rfl
theorem s160_13 : WP 160 0 13 L (vI x :: S) h Q ↔ zif (x = 0) (WP 160 0 16 L S h Q) (WP 160 0 20 L S h Q) := wp_bN zc_eq rfl rfl rfl
theorem s160_16 : WP 160 0 16 L S h Q ↔ WP 160 0 17 L (vI 1 :: S) h Q := wp_pl rfl rfl rfl
theorem s160_17 : WP 160 0 17 L S h Q ↔ WP 160 0 21 L S h Q := wp_pl rfl rfl rfl
theorem s160_20 : WP 160 0 20 L S h Q ↔ WP 160 0 21 L (vI 0 :: S) h Q := wp_pl rfl rfl rfl
theorem s160_21 : WP 160 0 21 L S h Q ↔ WP 160 0 22 L (vI 1 :: S) h Q := wp_pl rfl rfl rfl
theorem s160_22 : WP 160 0 22 L (vI x1 :: vI x0 :: vA (some a) :: S) h Q ↔ ((hk h a).1 = 110 ∧ (zw S ≤ 8 ∧ WP 248 0 0 [vA (some a), vI x0, vI x1] [] h (zret 160 0 22 25 L S Q))) := wp_V1 (c := 110) rfl rfl (fun _ => rfl) rfl rfl (zcan_of rfl rfl) rfl rfl rfl
theorem s160_25 : WP 160 0 25 L (vI x :: S) h Q ↔ zif (x = 0) (WP 160 0 30 L S h Q) (WP 160 0 28 L S h Q) := wp_bE zc_eq rfl rfl rfl
theorem s160_28 : WP 160 0 28 L S h Q ↔ WP 160 0 29 L (vI 0 :: S) h Q := wp_pl rfl rfl rfl
theorem s160_29 : WP 160 0 29 L [vI x] h Q ↔ Q (.inl (some (vI x))) h := wp_iret0 rfl rfl
theorem s160_30 : WP 160 0 30 L S h Q ↔ WP 160 0 31 L (vI 0 :: S) h Q := wp_pl rfl rfl rfl
theorem s160_31 : WP 160 0 31 [a0, a1, a2, a3, a4, a5] (vI x :: S) h Q ↔ WP 160 0 32 [a0, a1, vI x, a3, a4, a5] S h Q := wp_istore rfl rfl rfl
theorem s160_32 : WP 160 0 32 L S h Q ↔ WP 160 0 33 L (vI 0 :: S) h Q := wp_pl rfl rfl rfl
theorem s160_33 : WP 160 0 33 [a0, a1, a2, a3, a4, a5] (vI x :: S) h Q ↔ WP 160 0 34 [a0, a1, a2, vI x, a4, a5] S h Q := wp_istore rfl rfl rfl
theorem s160_34 : WP 160 0 34 [a0, a1, a2, vI x, a4, a5] S h Q ↔ WP 160 0 35 [a0, a1, a2, vI x, a4, a5] (vI x :: S) h Q := wp_iload rfl rfl
theorem s160_35 : WP 160 0 35 [a0, vI x, a2, a3, a4, a5] S h Q ↔ WP 160 0 36 [a0, vI x, a2, a3, a4, a5] (vI x :: S) h Q := wp_iload rfl rfl
theorem s160_36 : WP 160 0 36 L (vI y :: vI x :: S) h Q ↔ WP 160 0 37 L (vI (wr (x + y)) :: S) h Q := wp_pl rfl rfl rfl
theorem s160_37 : WP 160 0 37 [vA r, a1, a2, a3, a4, a5] S h Q ↔ WP 160 0 38 [vA r, a1, a2, a3, a4, a5] (vA r :: S) h Q := wp_aload rfl rfl
theorem s160_38 : WP 160 0 38 L (vA (some a) :: S) h Q ↔ (zhas 59 (hk h a) = true ∧ WP 160 0 41 L (hm h a 59 :: S) h Q) := wp_if rfl rfl rfl
theorem s160_41 : WP 160 0 41 L (vI y :: vI x :: S) h Q ↔ zif (y < x) (WP 160 0 104 L S h Q) (WP 160 0 44 L S h Q) := wp_bE zc_gt rfl rfl rfl
theorem s160_44 : WP 160 0 44 L S h Q ↔ WP 160 0 45 L (vI 0 :: S) h Q := wp_pl rfl rfl rfl
theorem s160_45 : WP 160 0 45 [a0, a1, a2, a3, a4, a5] (vI x :: S) h Q ↔ WP 160 0 47 [a0, a1, a2, a3, vI x, a5] S h Q := wp_istore rfl rfl rfl
theorem s160_47 : WP 160 0 47 L S h Q ↔ WP 160 0 48 L (vI 0 :: S) h Q := wp_pl rfl rfl rfl
theorem s160_48 : WP 160 0 48 [a0, a1, a2, a3, a4, a5] (vI x :: S) h Q ↔ WP 160 0 50 [a0, a1, a2, a3, a4, vI x] S h Q := wp_istore rfl rfl rfl
theorem s160_50 : WP 160 0 50 [a0, a1, a2, a3, a4, vI x] S h Q ↔ WP 160 0 52 [a0, a1, a2, a3, a4, vI x] (vI x :: S) h Q := wp_iload rfl rfl
theorem s160_52 : WP 160 0 52 [a0, a1, a2, vI x, a4, a5] S h Q ↔ WP 160 0 53 [a0, a1, a2, vI x, a4, a5] (vI x :: S) h Q := wp_iload rfl rfl
theorem s160_53 : WP 160 0 53 L (vI y :: vI x :: S) h Q ↔ zif (x < y) (WP 160 0 56 L S h Q) (WP 160 0 85 L S h Q) := wp_bN zc_lt rfl rfl rfl
theorem s160_56 : WP 160 0 56 [a0, a1, a2, a3, vI x, a5] S h Q ↔ WP 160 0 58 [a0, a1, a2, a3, vI x, a5] (vI x :: S) h Q := wp_iload rfl rfl
theorem s160_58 : WP 160 0 58 L (vI x :: S) h Q ↔ zif (x = 0) (WP 160 0 61 L S h Q) (WP 160 0 72 L S h Q) := wp_bN zc_eq rfl rfl rfl
theorem s160_61 : WP 160 0 61 [vA r, a1, a2, a3, a4, a5] S h Q ↔ WP 160 0 62 [vA r, a1, a2, a3, a4, a5] (vA r :: S) h Q := wp_aload rfl rfl
theorem s160_62 : WP 160 0 62 [a0, a1, a2, vI x, a4, a5] S h Q ↔ WP 160 0 63 [a0, a1, a2, vI x, a4, a5] (vI x :: S) h Q := wp_iload rfl rfl
theorem s160_63 : WP 160 0 63 [a0, a1, a2, a3, a4, vI x] S h Q ↔ WP 160 0 65 [a0, a1, a2, a3, a4, vI x] (vI x :: S) h Q := wp_iload rfl rfl
theorem s160_65 : WP 160 0 65 [a0, vI x, a2, a3, a4, a5] S h Q ↔ WP 160 0 66 [a0, vI x, a2, a3, a4, a5] (vI x :: S) h Q := wp_iload rfl rfl
theorem s160_66 : WP 160 0 66 L (vI x2 :: vI x1 :: vI x0 :: vA (some a) :: S) h Q ↔ ((hk h a).1 = 110 ∧ (zw S ≤ 8 ∧ WP 136 0 0 [vA (some a), vI x0, vI x1, vI x2, vJ] [] h (zret 160 0 66 69 L S Q))) := wp_V1 (c := 110) rfl rfl (fun _ => rfl) rfl rfl (zcan_of rfl rfl) rfl rfl rfl
theorem s160_69 : WP 160 0 69 L (vI x :: S) h Q ↔ zif (x = 0) (WP 160 0 76 L S h Q) (WP 160 0 72 L S h Q) := wp_bE zc_eq rfl rfl rfl
theorem s160_72 : WP 160 0 72 L S h Q ↔ WP 160 0 73 L (vI 1 :: S) h Q := wp_pl rfl rfl rfl
theorem s160_73 : WP 160 0 73 L S h Q ↔ WP 160 0 77 L S h Q := wp_pl rfl rfl rfl
theorem s160_76 : WP 160 0 76 L S h Q ↔ WP 160 0 77 L (vI 0 :: S) h Q := wp_pl rfl rfl rfl
theorem s160_77 : WP 160 0 77 [a0, a1, a2, a3, a4, a5] (vI x :: S) h Q ↔ WP 160 0 79 [a0, a1, a2, a3, vI x, a5] S h Q := wp_istore rfl rfl rfl
theorem s160_79 : WP 160 0 79 [a0, a1, a2, a3, a4, vI x] S h Q ↔ WP 160 0 82 [a0, a1, a2, a3, a4, vI (wr (x + 1))] S h Q := wp_iinc rfl rfl rfl
theorem s160_82 : WP 160 0 82 L S h Q ↔ WP 160 0 50 L S h Q := wp_pl rfl rfl rfl
theorem s160_85 : WP 160 0 85 [a0, a1, vI x, a3, a4, a5] S h Q ↔ WP 160 0 86 [a0, a1, vI x, a3, a4, a5] (vI x :: S) h Q := wp_iload rfl rfl
theorem s160_86 : WP 160 0 86 [a0, a1, a2, a3, vI x, a5] S h Q ↔ WP 160 0 88 [a0, a1, a2, a3, vI x, a5] (vI x :: S) h Q := wp_iload rfl rfl
theorem s160_88 : WP 160 0 88 L (vI x :: S) h Q ↔ zif (x = 0) (WP 160 0 95 L S h Q) (WP 160 0 91 L S h Q) := wp_bE zc_eq rfl rfl rfl
theorem s160_91 : WP 160 0 91 L S h Q ↔ WP 160 0 92 L (vI 0 :: S) h Q := wp_pl rfl rfl rfl
theorem s160_92 : WP 160 0 92 L S h Q ↔ WP 160 0 96 L S h Q := wp_pl rfl rfl rfl
theorem s160_95 : WP 160 0 95 L S h Q ↔ WP 160 0 96 L (vI 1 :: S) h Q := wp_pl rfl rfl rfl
theorem s160_96 : WP 160 0 96 L (vI y :: vI x :: S) h Q ↔ WP 160 0 97 L (vI (wr (x + y)) :: S) h Q := wp_pl rfl rfl rfl
theorem s160_97 : WP 160 0 97 [a0, a1, a2, a3, a4, a5] (vI x :: S) h Q ↔ WP 160 0 98 [a0, a1, vI x, a3, a4, a5] S h Q := wp_istore rfl rfl rfl
theorem s160_98 : WP 160 0 98 [a0, a1, a2, vI x, a4, a5] S h Q ↔ WP 160 0 101 [a0, a1, a2, vI (wr (x + 1)), a4, a5] S h Q := wp_iinc rfl rfl rfl
theorem s160_101 : WP 160 0 101 L S h Q ↔ WP 160 0 34 L S h Q := wp_pl rfl rfl rfl
theorem s160_104 : WP 160 0 104 [a0, a1, vI x, a3, a4, a5] S h Q ↔ WP 160 0 105 [a0, a1, vI x, a3, a4, a5] (vI x :: S) h Q := wp_iload rfl rfl
theorem s160_105 : WP 160 0 105 L [vI x] h Q ↔ Q (.inl (some (vI x))) h := wp_iret0 rfl rfl
/-! RepeatFreeModel.fails()V -/
theorem s161_0 : WP 161 0 0 [vA r] S h Q ↔ WP 161 0 1 [vA r] (vA r :: S) h Q := wp_aload rfl rfl
theorem s161_1 : WP 161 0 1 L (vA (some a) :: S) h Q ↔ (zhas 52 (hk h a) = true ∧ WP 161 0 4 L (hm h a 52 :: S) h Q) := wp_if rfl rfl rfl
theorem s161_4 : WP 161 0 4 L S h Q ↔ WP 161 0 5 L (vI (-1) :: S) h Q := wp_pl rfl rfl rfl
theorem s161_5 : WP 161 0 5 L (vI y :: vI x :: S) h Q ↔ zif (x = y) (WP 161 0 8 L S h Q) (WP 161 0 16 L S h Q) := wp_bN zc_eq rfl rfl rfl
theorem s161_8 : WP 161 0 8 [vA r] S h Q ↔ WP 161 0 9 [vA r] (vA r :: S) h Q := wp_aload rfl rfl
theorem s161_9 : WP 161 0 9 [vA r] S h Q ↔ WP 161 0 10 [vA r] (vA r :: S) h Q := wp_aload rfl rfl
theorem s161_10 : WP 161 0 10 L (vA (some a) :: S) h Q ↔ (zhas 50 (hk h a) = true ∧ WP 161 0 13 L (hm h a 50 :: S) h Q) := wp_if rfl rfl rfl
theorem s161_13 : WP 161 0 13 L (vI x :: vA (some a) :: S) h Q ↔ ((zNC ≤ a ∧ zhas 52 (hk h a) = true) ∧ WP 161 0 16 L S (hput h a 52 (vI x)) Q) := wp_put0 rfl rfl
theorem s161_16 : WP 161 0 16 L [] h Q ↔ Q (.inl none) h := wp_ret rfl
/-! RepeatFreeModel.fault()I -/
theorem s162_0 : WP 162 0 0 [vA r] S h Q ↔ WP 162 0 1 [vA r] (vA r :: S) h Q := wp_aload rfl rfl
theorem s162_1 : WP 162 0 1 L S h Q ↔ WP 162 0 2 L (vI 0 :: S) h Q := wp_pl rfl rfl rfl
theorem s162_2 : WP 162 0 2 L (vI x :: vA (some a) :: S) h Q ↔ ((zNC ≤ a ∧ zhas 45 (hk h a) = true) ∧ WP 162 0 5 L S (hput h a 45 (vI x)) Q) := wp_put0 rfl rfl
theorem s162_5 : WP 162 0 5 [vA r] S h Q ↔ WP 162 0 6 [vA r] (vA r :: S) h Q := wp_aload rfl rfl
theorem s162_6 : WP 162 0 6 L (vA (some a) :: S) h Q ↔ (zhas 53 (hk h a) = true ∧ WP 162 0 9 L (hm h a 53 :: S) h Q) := wp_if rfl rfl rfl
theorem s162_9 : WP 162 0 9 L [vI x] h Q ↔ Q (.inl (some (vI x))) h := wp_iret0 rfl rfl
/-! RepeatFreeModel.feed(IIIII)I -/
theorem s163_0 : WP 163 0 0 [vA r, a1, a2, a3, a4, a5, a6] S h Q ↔ WP 163 0 1 [vA r, a1, a2, a3, a4, a5, a6] (vA r :: S) h Q := wp_aload rfl rfl
theorem s163_1 : WP 163 0 1 L S h Q ↔ WP 163 0 2 L (vI 0 :: S) h Q := wp_pl rfl rfl rfl
theorem s163_2 : WP 163 0 2 L (vI x :: vA (some a) :: S) h Q ↔ ((zNC ≤ a ∧ zhas 45 (hk h a) = true) ∧ WP 163 0 5 L S (hput h a 45 (vI x)) Q) := wp_put0 rfl rfl
theorem s163_5 : WP 163 0 5 [vA r, a1, a2, a3, a4, a5, a6] S h Q ↔ WP 163 0 6 [vA r, a1, a2, a3, a4, a5, a6] (vA r :: S) h Q := wp_aload rfl rfl
theorem s163_6 : WP 163 0 6 L (vA (some a) :: S) h Q ↔ (zhas 47 (hk h a) = true ∧ WP 163 0 9 L (hm h a 47 :: S) h Q) := wp_if rfl rfl rfl
theorem s163_9 : WP 163 0 9 L S h Q ↔ WP 163 0 11 L (vI 20 :: S) h Q := wp_pl rfl rfl rfl
theorem s163_11 : WP 163 0 11 L (vI y :: vI x :: S) h Q ↔ WP 163 0 12 L (vI (wr (x + y)) :: S) h Q := wp_pl rfl rfl rfl
theorem s163_12 : WP 163 0 12 L S h Q ↔ WP 163 0 15 L (vI 400 :: S) h Q := wp_pl rfl rfl rfl
theorem s163_15 : WP 163 0 15 L (vI y :: vI x :: S) h Q ↔ zif (y < x) (WP 163 0 18 L S h Q) (WP 163 0 20 L S h Q) := wp_bN zc_gt rfl rfl rfl
theorem s163_18 : WP 163 0 18 L S h Q ↔ WP 163 0 19 L (vI (-1) :: S) h Q := wp_pl rfl rfl rfl
theorem s163_19 : WP 163 0 19 L [vI x] h Q ↔ Q (.inl (some (vI x))) h := wp_iret0 rfl rfl
theorem s163_20 : WP 163 0 20 [vA r, a1, a2, a3, a4, a5, a6] S h Q ↔ WP 163 0 21 [vA r, a1, a2, a3, a4, a5, a6] (vA r :: S) h Q := wp_aload rfl rfl
theorem s163_21 : WP 163 0 21 L (vA (some a) :: S) h Q ↔ (zhas 48 (hk h a) = true ∧ WP 163 0 24 L (hm h a 48 :: S) h Q) := wp_if rfl rfl rfl
theorem s163_24 : WP 163 0 24 L S h Q ↔ WP 163 0 25 L (vI 0 :: S) h Q := wp_pl rfl rfl rfl
theorem s163_25 : WP 163 0 25 [a0, vI x, a2, a3, a4, a5, a6] S h Q ↔ WP 163 0 26 [a0, vI x, a2, a3, a4, a5, a6] (vI x :: S) h Q := wp_iload rfl rfl
theorem s163_26 : WP 163 0 26 L (vI y :: vI x :: vA (some a) :: S) h Q ↔ (((hk h a).1 = 1 ∧ (0 ≤ x ∧ x < ((hk h a).2 : Int)) ∧ zNC ≤ a) ∧ WP 163 0 27 L S (hput h a x.toNat (vI y)) Q) := wp_if rfl rfl rfl
theorem s163_27 : WP 163 0 27 [vA r, a1, a2, a3, a4, a5, a6] S h Q ↔ WP 163 0 28 [vA r, a1, a2, a3, a4, a5, a6] (vA r :: S) h Q := wp_aload rfl rfl
theorem s163_28 : WP 163 0 28 L (vA (some a) :: S) h Q ↔ (zhas 48 (hk h a) = true ∧ WP 163 0 31 L (hm h a 48 :: S) h Q) := wp_if rfl rfl rfl
theorem s163_31 : WP 163 0 31 L S h Q ↔ WP 163 0 32 L (vI 1 :: S) h Q := wp_pl rfl rfl rfl
theorem s163_32 : WP 163 0 32 [a0, a1, vI x, a3, a4, a5, a6] S h Q ↔ WP 163 0 33 [a0, a1, vI x, a3, a4, a5, a6] (vI x :: S) h Q := wp_iload rfl rfl
theorem s163_33 : WP 163 0 33 L (vI y :: vI x :: vA (some a) :: S) h Q ↔ (((hk h a).1 = 1 ∧ (0 ≤ x ∧ x < ((hk h a).2 : Int)) ∧ zNC ≤ a) ∧ WP 163 0 34 L S (hput h a x.toNat (vI y)) Q) := wp_if rfl rfl rfl
theorem s163_34 : WP 163 0 34 [vA r, a1, a2, a3, a4, a5, a6] S h Q ↔ WP 163 0 35 [vA r, a1, a2, a3, a4, a5, a6] (vA r :: S) h Q := wp_aload rfl rfl
theorem s163_35 : WP 163 0 35 L (vA (some a) :: S) h Q ↔ (zhas 48 (hk h a) = true ∧ WP 163 0 38 L (hm h a 48 :: S) h Q) := wp_if rfl rfl rfl
theorem s163_38 : WP 163 0 38 L S h Q ↔ WP 163 0 39 L (vI 2 :: S) h Q := wp_pl rfl rfl rfl
theorem s163_39 : WP 163 0 39 [a0, a1, a2, vI x, a4, a5, a6] S h Q ↔ WP 163 0 40 [a0, a1, a2, vI x, a4, a5, a6] (vI x :: S) h Q := wp_iload rfl rfl
theorem s163_40 : WP 163 0 40 L (vI y :: vI x :: vA (some a) :: S) h Q ↔ (((hk h a).1 = 1 ∧ (0 ≤ x ∧ x < ((hk h a).2 : Int)) ∧ zNC ≤ a) ∧ WP 163 0 41 L S (hput h a x.toNat (vI y)) Q) := wp_if rfl rfl rfl
theorem s163_41 : WP 163 0 41 [vA r, a1, a2, a3, a4, a5, a6] S h Q ↔ WP 163 0 42 [vA r, a1, a2, a3, a4, a5, a6] (vA r :: S) h Q := wp_aload rfl rfl
theorem s163_42 : WP 163 0 42 L (vA (some a) :: S) h Q ↔ (zhas 48 (hk h a) = true ∧ WP 163 0 45 L (hm h a 48 :: S) h Q) := wp_if rfl rfl rfl
theorem s163_45 : WP 163 0 45 L S h Q ↔ WP 163 0 46 L (vI 3 :: S) h Q := wp_pl rfl rfl rfl
theorem s163_46 : WP 163 0 46 [a0, a1, a2, a3, vI x, a5, a6] S h Q ↔ WP 163 0 48 [a0, a1, a2, a3, vI x, a5, a6] (vI x :: S) h Q := wp_iload rfl rfl
theorem s163_48 : WP 163 0 48 L (vI y :: vI x :: vA (some a) :: S) h Q ↔ (((hk h a).1 = 1 ∧ (0 ≤ x ∧ x < ((hk h a).2 : Int)) ∧ zNC ≤ a) ∧ WP 163 0 49 L S (hput h a x.toNat (vI y)) Q) := wp_if rfl rfl rfl
theorem s163_49 : WP 163 0 49 [vA r, a1, a2, a3, a4, a5, a6] S h Q ↔ WP 163 0 50 [vA r, a1, a2, a3, a4, a5, a6] (vA r :: S) h Q := wp_aload rfl rfl
theorem s163_50 : WP 163 0 50 L (vA (some a) :: S) h Q ↔ (zhas 48 (hk h a) = true ∧ WP 163 0 53 L (hm h a 48 :: S) h Q) := wp_if rfl rfl rfl
theorem s163_53 : WP 163 0 53 L S h Q ↔ WP 163 0 54 L (vI 4 :: S) h Q := wp_pl rfl rfl rfl
theorem s163_54 : WP 163 0 54 [a0, a1, a2, a3, a4, vI x, a6] S h Q ↔ WP 163 0 56 [a0, a1, a2, a3, a4, vI x, a6] (vI x :: S) h Q := wp_iload rfl rfl
theorem s163_56 : WP 163 0 56 L (vI y :: vI x :: vA (some a) :: S) h Q ↔ (((hk h a).1 = 1 ∧ (0 ≤ x ∧ x < ((hk h a).2 : Int)) ∧ zNC ≤ a) ∧ WP 163 0 57 L S (hput h a x.toNat (vI y)) Q) := wp_if rfl rfl rfl
theorem s163_57 : WP 163 0 57 L S h Q ↔ WP 163 0 58 L (vI 0 :: S) h Q := wp_pl rfl rfl rfl
theorem s163_58 : WP 163 0 58 [a0, a1, a2, a3, a4, a5, a6] (vI x :: S) h Q ↔ WP 163 0 60 [a0, a1, a2, a3, a4, a5, vI x] S h Q := wp_istore rfl rfl rfl
theorem s163_60 : WP 163 0 60 [a0, a1, a2, a3, a4, a5, vI x] S h Q ↔ WP 163 0 62 [a0, a1, a2, a3, a4, a5, vI x] (vI x :: S) h Q := wp_iload rfl rfl
theorem s163_62 : WP 163 0 62 L S h Q ↔ WP 163 0 64 L (vI 20 :: S) h Q := wp_pl rfl rfl rfl
theorem s163_64 : WP 163 0 64 L (vI y :: vI x :: S) h Q ↔ zif (x < y) (WP 163 0 67 L S h Q) (WP 163 0 106 L S h Q) := wp_bN zc_lt rfl rfl rfl
theorem s163_67 : WP 163 0 67 [vA r, a1, a2, a3, a4, a5, a6] S h Q ↔ WP 163 0 68 [vA r, a1, a2, a3, a4, a5, a6] (vA r :: S) h Q := wp_aload rfl rfl
theorem s163_68 : WP 163 0 68 L (vA (some a) :: S) h Q ↔ (zhas 46 (hk h a) = true ∧ WP 163 0 71 L (hm h a 46 :: S) h Q) := wp_if rfl rfl rfl
theorem s163_71 : WP 163 0 71 [vA r, a1, a2, a3, a4, a5, a6] S h Q ↔ WP 163 0 72 [vA r, a1, a2, a3, a4, a5, a6] (vA r :: S) h Q := wp_aload rfl rfl
theorem s163_72 : WP 163 0 72 L (vA (some a) :: S) h Q ↔ (zhas 47 (hk h a) = true ∧ WP 163 0 75 L (hm h a 47 :: S) h Q) := wp_if rfl rfl rfl
theorem s163_75 : WP 163 0 75 [a0, a1, a2, a3, a4, a5, vI x] S h Q ↔ WP 163 0 77 [a0, a1, a2, a3, a4, a5, vI x] (vI x :: S) h Q := wp_iload rfl rfl
theorem s163_77 : WP 163 0 77 L (vI y :: vI x :: S) h Q ↔ WP 163 0 78 L (vI (wr (x + y)) :: S) h Q := wp_pl rfl rfl rfl
theorem s163_78 : WP 163 0 78 [vA r, a1, a2, a3, a4, a5, a6] S h Q ↔ WP 163 0 79 [vA r, a1, a2, a3, a4, a5, a6] (vA r :: S) h Q := wp_aload rfl rfl
theorem s163_79 : WP 163 0 79 L (vA (some a) :: S) h Q ↔ (zhas 48 (hk h a) = true ∧ WP 163 0 82 L (hm h a 48 :: S) h Q) := wp_if rfl rfl rfl
theorem s163_82 : WP 163 0 82 [a0, a1, a2, a3, a4, a5, vI x] S h Q ↔ WP 163 0 84 [a0, a1, a2, a3, a4, a5, vI x] (vI x :: S) h Q := wp_iload rfl rfl
theorem s163_84 : WP 163 0 84 L S h Q ↔ WP 163 0 85 L (vI 4 :: S) h Q := wp_pl rfl rfl rfl
theorem s163_85 : WP 163 0 85 L (vI y :: vI x :: S) h Q ↔ (¬ y = 0 ∧ WP 163 0 86 L (vI (wr (x.tdiv y)) :: S) h Q) := wp_ifx rfl rfl rfl
theorem s163_86 : WP 163 0 86 L (vI x :: vA (some a) :: S) h Q ↔ (((hk h a).1 = 1 ∧ 0 ≤ x ∧ x < ((hk h a).2 : Int)) ∧ WP 163 0 87 L (hm h a x.toNat :: S) h Q) := wp_if rfl rfl rfl
theorem s163_87 : WP 163 0 87 L S h Q ↔ WP 163 0 89 L (vI 24 :: S) h Q := wp_pl rfl rfl rfl
theorem s163_89 : WP 163 0 89 L S h Q ↔ WP 163 0 91 L (vI 8 :: S) h Q := wp_pl rfl rfl rfl
theorem s163_91 : WP 163 0 91 [a0, a1, a2, a3, a4, a5, vI x] S h Q ↔ WP 163 0 93 [a0, a1, a2, a3, a4, a5, vI x] (vI x :: S) h Q := wp_iload rfl rfl
theorem s163_93 : WP 163 0 93 L S h Q ↔ WP 163 0 94 L (vI 4 :: S) h Q := wp_pl rfl rfl rfl
theorem s163_94 : WP 163 0 94 L (vI y :: vI x :: S) h Q ↔ (¬ y = 0 ∧ WP 163 0 95 L (vI (x.tmod y) :: S) h Q) := wp_ifx rfl rfl rfl
theorem s163_95 : WP 163 0 95 L (vI y :: vI x :: S) h Q ↔ WP 163 0 96 L (vI (wr (x * y)) :: S) h Q := wp_pl rfl rfl rfl
theorem s163_96 : WP 163 0 96 L (vI y :: vI x :: S) h Q ↔ WP 163 0 97 L (vI (wr (x - y)) :: S) h Q := wp_pl rfl rfl rfl
theorem s163_97 : WP 163 0 97 L (vI y :: vI x :: S) h Q ↔ WP 163 0 98 L (vI (zshr x y) :: S) h Q := wp_pl rfl rfl rfl
theorem s163_98 : WP 163 0 98 L (vI x :: S) h Q ↔ WP 163 0 99 L (vI (wb x) :: S) h Q := wp_pl rfl rfl rfl
theorem s163_99 : WP 163 0 99 L (vI y :: vI x :: vA (some a) :: S) h Q ↔ ((((hk h a).1 = 2 ∨ (hk h a).1 = 3) ∧ (0 ≤ x ∧ x < ((hk h a).2 : Int)) ∧ zNC ≤ a ∧ ((hk h a).1 = 3 → y = 0 ∨ y = 1)) ∧ WP 163 0 100 L S (hput h a x.toNat (vI (if (hk h a).1 = 2 then wb y else y))) Q) := wp_if rfl rfl rfl
theorem s163_100 : WP 163 0 100 [a0, a1, a2, a3, a4, a5, vI x] S h Q ↔ WP 163 0 103 [a0, a1, a2, a3, a4, a5, vI (wr (x + 1))] S h Q := wp_iinc rfl rfl rfl
theorem s163_103 : WP 163 0 103 L S h Q ↔ WP 163 0 60 L S h Q := wp_pl rfl rfl rfl
theorem s163_106 : WP 163 0 106 [vA r, a1, a2, a3, a4, a5, a6] S h Q ↔ WP 163 0 107 [vA r, a1, a2, a3, a4, a5, a6] (vA r :: S) h Q := wp_aload rfl rfl
theorem s163_107 : WP 163 0 107 L (vA r :: S) h Q ↔ WP 163 0 108 L (vA r :: vA r :: S) h Q := wp_pl rfl rfl rfl
theorem s163_107i : WP 163 0 107 L (vI x :: S) h Q ↔ WP 163 0 108 L (vI x :: vI x :: S) h Q := wp_pl rfl rfl rfl
theorem s163_108 : WP 163 0 108 L (vA (some a) :: S) h Q ↔ (zhas 47 (hk h a) = true ∧ WP 163 0 111 L (hm h a 47 :: S) h Q) := wp_if rfl rfl rfl
theorem s163_111 : WP 163 0 111 L S h Q ↔ WP 163 0 113 L (vI 20 :: S) h Q := wp_pl rfl rfl rfl
theorem s163_113 : WP 163 0 113 L (vI y :: vI x :: S) h Q ↔ WP 163 0 114 L (vI (wr (x + y)) :: S) h Q := wp_pl rfl rfl rfl
theorem s163_114 : WP 163 0 114 L (vI x :: vA (some a) :: S) h Q ↔ ((zNC ≤ a ∧ zhas 47 (hk h a) = true) ∧ WP 163 0 117 L S (hput h a 47 (vI x)) Q) := wp_put0 rfl rfl
theorem s163_117 : WP 163 0 117 [vA r, a1, a2, a3, a4, a5, a6] S h Q ↔ WP 163 0 118 [vA r, a1, a2, a3, a4, a5, a6] (vA r :: S) h Q := wp_aload rfl rfl
theorem s163_118 : WP 163 0 118 L (vA (some a) :: S) h Q ↔ (zhas 47 (hk h a) = true ∧ WP 163 0 121 L (hm h a 47 :: S) h Q) := wp_if rfl rfl rfl
theorem s163_121 : WP 163 0 121 L [vI x] h Q ↔ Q (.inl (some (vI x))) h := wp_iret0 rfl rfl
/-! RepeatFreeModel.fill(III)I -/
theorem s164_0 : WP 164 0 0 [vA r, a1, a2, a3, a4, a5, a6] S h Q ↔ WP 164 0 1 [vA r, a1, a2, a3, a4, a5, a6] (vA r :: S) h Q := wp_aload rfl rfl
theorem s164_1 : WP 164 0 1 L S h Q ↔ WP 164 0 2 L (vI 0 :: S) h Q := wp_pl rfl rfl rfl
theorem s164_2 : WP 164 0 2 L (vI x :: vA (some a) :: S) h Q ↔ ((zNC ≤ a ∧ zhas 45 (hk h a) = true) ∧ WP 164 0 5 L S (hput h a 45 (vI x)) Q) := wp_put0 rfl rfl
theorem s164_5 : WP 164 0 5 [vA r, a1, a2, a3, a4, a5, a6] S h Q ↔ WP 164 0 6 [vA r, a1, a2, a3, a4, a5, a6] (vA r :: S) h Q := wp_aload rfl rfl
theorem s164_6 : WP 164 0 6 [a0, vI x, a2, a3, a4, a5, a6] S h Q ↔ WP 164 0 7 [a0, vI x, a2, a3, a4, a5, a6] (vI x :: S) h Q := wp_iload rfl rfl
theorem s164_7 : WP 164 0 7 L (vI x0 :: vA (some a) :: S) h Q ↔ ((hk h a).1 = 110 ∧ (zw S ≤ 8 ∧ WP 223 0 0 [vA (some a), vI x0] [] h (zret 164 0 7 10 L S Q))) := wp_V1 (c := 110) rfl rfl (fun _ => rfl) rfl rfl (zcan_of rfl rfl) rfl rfl rfl
theorem s164_10 : WP 164 0 10 L (vI x :: S) h Q ↔ zif (x = 0) (WP 164 0 13 L S h Q) (WP 164 0 67 L S h Q) := wp_bN zc_eq rfl rfl rfl
theorem s164_13 : WP 164 0 13 [vA r, a1, a2, a3, a4, a5, a6] S h Q ↔ WP 164 0 14 [vA r, a1, a2, a3, a4, a5, a6] (vA r :: S) h Q := wp_aload rfl rfl
theorem s164_14 : WP 164 0 14 [a0, a1, vI x, a3, a4, a5, a6] S h Q ↔ WP 164 0 15 [a0, a1, vI x, a3, a4, a5, a6] (vI x :: S) h Q := wp_iload rfl rfl
theorem s164_15 : WP 164 0 15 L S h Q ↔ WP 164 0 16 L (vI 2 :: S) h Q := wp_pl rfl rfl rfl
theorem s164_16 : WP 164 0 16 L (vI x1 :: vI x0 :: vA (some a) :: S) h Q ↔ ((hk h a).1 = 110 ∧ (zw S ≤ 8 ∧ WP 222 0 0 [vA (some a), vI x0, vI x1] [] h (zret 164 0 16 19 L S Q))) := wp_V1 (c := 110) rfl rfl (fun _ => rfl) rfl rfl (zcan_of rfl rfl) rfl rfl rfl
theorem s164_19 : WP 164 0 19 L (vI x :: S) h Q ↔ zif (x = 0) (WP 164 0 22 L S h Q) (WP 164 0 67 L S h Q) := wp_bN zc_eq rfl rfl rfl
theorem s164_22 : WP 164 0 22 [vA r, a1, a2, a3, a4, a5, a6] S h Q ↔ WP 164 0 23 [vA r, a1, a2, a3, a4, a5, a6] (vA r :: S) h Q := wp_aload rfl rfl
theorem s164_23 : WP 164 0 23 [a0, a1, a2, vI x, a4, a5, a6] S h Q ↔ WP 164 0 24 [a0, a1, a2, vI x, a4, a5, a6] (vI x :: S) h Q := wp_iload rfl rfl
theorem s164_24 : WP 164 0 24 L S h Q ↔ WP 164 0 25 L (vI 1 :: S) h Q := wp_pl rfl rfl rfl
theorem s164_25 : WP 164 0 25 L S h Q ↔ WP 164 0 27 L (vI 64 :: S) h Q := wp_pl rfl rfl rfl
theorem s164_27 : WP 164 0 27 L (vI x2 :: vI x1 :: vI x0 :: S) h Q ↔ (zw S ≤ 8 ∧ WP 183 0 0 [vI x0, vI x1, vI x2] [] h (zret 164 0 27 30 L S Q)) := wp_S rfl rfl (zcan_of rfl rfl) rfl rfl rfl
theorem s164_30 : WP 164 0 30 L (vI x :: S) h Q ↔ zif (x = 0) (WP 164 0 33 L S h Q) (WP 164 0 37 L S h Q) := wp_bN zc_eq rfl rfl rfl
theorem s164_33 : WP 164 0 33 L S h Q ↔ WP 164 0 34 L (vI 1 :: S) h Q := wp_pl rfl rfl rfl
theorem s164_34 : WP 164 0 34 L S h Q ↔ WP 164 0 38 L S h Q := wp_pl rfl rfl rfl
theorem s164_37 : WP 164 0 37 L S h Q ↔ WP 164 0 38 L (vI 0 :: S) h Q := wp_pl rfl rfl rfl
theorem s164_38 : WP 164 0 38 L S h Q ↔ WP 164 0 39 L (vI 2 :: S) h Q := wp_pl rfl rfl rfl
theorem s164_39 : WP 164 0 39 L (vI x1 :: vI x0 :: vA (some a) :: S) h Q ↔ ((hk h a).1 = 110 ∧ (zw S ≤ 8 ∧ WP 248 0 0 [vA (some a), vI x0, vI x1] [] h (zret 164 0 39 42 L S Q))) := wp_V1 (c := 110) rfl rfl (fun _ => rfl) rfl rfl (zcan_of rfl rfl) rfl rfl rfl
theorem s164_42 : WP 164 0 42 L (vI x :: S) h Q ↔ zif (x = 0) (WP 164 0 45 L S h Q) (WP 164 0 67 L S h Q) := wp_bN zc_eq rfl rfl rfl
theorem s164_45 : WP 164 0 45 [vA r, a1, a2, a3, a4, a5, a6] S h Q ↔ WP 164 0 46 [vA r, a1, a2, a3, a4, a5, a6] (vA r :: S) h Q := wp_aload rfl rfl
theorem s164_46 : WP 164 0 46 [vA r, a1, a2, a3, a4, a5, a6] S h Q ↔ WP 164 0 47 [vA r, a1, a2, a3, a4, a5, a6] (vA r :: S) h Q := wp_aload rfl rfl
theorem s164_47 : WP 164 0 47 [a0, vI x, a2, a3, a4, a5, a6] S h Q ↔ WP 164 0 48 [a0, vI x, a2, a3, a4, a5, a6] (vI x :: S) h Q := wp_iload rfl rfl
theorem s164_48 : WP 164 0 48 [a0, a1, vI x, a3, a4, a5, a6] S h Q ↔ WP 164 0 49 [a0, a1, vI x, a3, a4, a5, a6] (vI x :: S) h Q := wp_iload rfl rfl
theorem s164_49 : WP 164 0 49 L (vI x1 :: vI x0 :: vA (some a) :: S) h Q ↔ ((hk h a).1 = 110 ∧ (zw S ≤ 8 ∧ WP 154 0 0 [vA (some a), vI x0, vI x1] [] h (zret 164 0 49 52 L S Q))) := wp_V1 (c := 110) rfl rfl (fun _ => rfl) rfl rfl (zcan_of rfl rfl) rfl rfl rfl
theorem s164_52 : WP 164 0 52 L (vI x :: S) h Q ↔ zif (x = 0) (WP 164 0 55 L S h Q) (WP 164 0 59 L S h Q) := wp_bN zc_eq rfl rfl rfl
theorem s164_55 : WP 164 0 55 L S h Q ↔ WP 164 0 56 L (vI 1 :: S) h Q := wp_pl rfl rfl rfl
theorem s164_56 : WP 164 0 56 L S h Q ↔ WP 164 0 60 L S h Q := wp_pl rfl rfl rfl
theorem s164_59 : WP 164 0 59 L S h Q ↔ WP 164 0 60 L (vI 0 :: S) h Q := wp_pl rfl rfl rfl
theorem s164_60 : WP 164 0 60 L S h Q ↔ WP 164 0 61 L (vI 3 :: S) h Q := wp_pl rfl rfl rfl
theorem s164_61 : WP 164 0 61 L (vI x1 :: vI x0 :: vA (some a) :: S) h Q ↔ ((hk h a).1 = 110 ∧ (zw S ≤ 8 ∧ WP 248 0 0 [vA (some a), vI x0, vI x1] [] h (zret 164 0 61 64 L S Q))) := wp_V1 (c := 110) rfl rfl (fun _ => rfl) rfl rfl (zcan_of rfl rfl) rfl rfl rfl
theorem s164_64 : WP 164 0 64 L (vI x :: S) h Q ↔ zif (x = 0) (WP 164 0 69 L S h Q) (WP 164 0 67 L S h Q) := wp_bE zc_eq rfl rfl rfl
theorem s164_67 : WP 164 0 67 L S h Q ↔ WP 164 0 68 L (vI 0 :: S) h Q := wp_pl rfl rfl rfl
theorem s164_68 : WP 164 0 68 L [vI x] h Q ↔ Q (.inl (some (vI x))) h := wp_iret0 rfl rfl
theorem s164_69 : WP 164 0 69 [vA r, a1, a2, a3, a4, a5, a6] S h Q ↔ WP 164 0 70 [vA r, a1, a2, a3, a4, a5, a6] (vA r :: S) h Q := wp_aload rfl rfl
theorem s164_70 : WP 164 0 70 L (vA (some a) :: S) h Q ↔ (zhas 58 (hk h a) = true ∧ WP 164 0 73 L (hm h a 58 :: S) h Q) := wp_if rfl rfl rfl
theorem s164_73 : WP 164 0 73 L S h Q ↔ WP 164 0 74 L (vI 0 :: S) h Q := wp_pl rfl rfl rfl
theorem s164_74 : WP 164 0 74 [a0, a1, vI x, a3, a4, a5, a6] S h Q ↔ WP 164 0 75 [a0, a1, vI x, a3, a4, a5, a6] (vI x :: S) h Q := wp_iload rfl rfl
theorem s164_75 : WP 164 0 75 L (vI y :: vI x :: vA (some a) :: S) h Q ↔ (((hk h a).1 = 1 ∧ (0 ≤ x ∧ x < ((hk h a).2 : Int)) ∧ zNC ≤ a) ∧ WP 164 0 76 L S (hput h a x.toNat (vI y)) Q) := wp_if rfl rfl rfl
theorem s164_76 : WP 164 0 76 L S h Q ↔ WP 164 0 77 L (vI 1 :: S) h Q := wp_pl rfl rfl rfl
theorem s164_77 : WP 164 0 77 [a0, a1, a2, a3, a4, a5, a6] (vI x :: S) h Q ↔ WP 164 0 79 [a0, a1, a2, a3, vI x, a5, a6] S h Q := wp_istore rfl rfl rfl
theorem s164_79 : WP 164 0 79 L S h Q ↔ WP 164 0 80 L (vI 0 :: S) h Q := wp_pl rfl rfl rfl
theorem s164_80 : WP 164 0 80 [a0, a1, a2, a3, a4, a5, a6] (vI x :: S) h Q ↔ WP 164 0 82 [a0, a1, a2, a3, a4, vI x, a6] S h Q := wp_istore rfl rfl rfl
theorem s164_82 : WP 164 0 82 [a0, a1, a2, a3, vI x, a5, a6] S h Q ↔ WP 164 0 84 [a0, a1, a2, a3, vI x, a5, a6] (vI x :: S) h Q := wp_iload rfl rfl
theorem s164_84 : WP 164 0 84 [a0, a1, a2, vI x, a4, a5, a6] S h Q ↔ WP 164 0 85 [a0, a1, a2, vI x, a4, a5, a6] (vI x :: S) h Q := wp_iload rfl rfl
theorem s164_85 : WP 164 0 85 L (vI y :: vI x :: S) h Q ↔ zif (x < y) (WP 164 0 88 L S h Q) (WP 164 0 159 L S h Q) := wp_bN zc_lt rfl rfl rfl
theorem s164_88 : WP 164 0 88 [a0, a1, a2, a3, a4, vI x, a6] S h Q ↔ WP 164 0 90 [a0, a1, a2, a3, a4, vI x, a6] (vI x :: S) h Q := wp_iload rfl rfl
theorem s164_90 : WP 164 0 90 L (vI x :: S) h Q ↔ zif (x = 0) (WP 164 0 93 L S h Q) (WP 164 0 97 L S h Q) := wp_bN zc_eq rfl rfl rfl
theorem s164_93 : WP 164 0 93 L S h Q ↔ WP 164 0 94 L (vI 1 :: S) h Q := wp_pl rfl rfl rfl
theorem s164_94 : WP 164 0 94 L S h Q ↔ WP 164 0 98 L S h Q := wp_pl rfl rfl rfl
theorem s164_97 : WP 164 0 97 L S h Q ↔ WP 164 0 98 L (vI 0 :: S) h Q := wp_pl rfl rfl rfl
theorem s164_98 : WP 164 0 98 [a0, a1, a2, a3, a4, a5, a6] (vI x :: S) h Q ↔ WP 164 0 100 [a0, a1, a2, a3, a4, a5, vI x] S h Q := wp_istore rfl rfl rfl
theorem s164_100 : WP 164 0 100 [a0, a1, a2, a3, a4, a5, vI x] S h Q ↔ WP 164 0 102 [a0, a1, a2, a3, a4, a5, vI x] (vI x :: S) h Q := wp_iload rfl rfl
theorem s164_102 : WP 164 0 102 [vA r, a1, a2, a3, a4, a5, a6] S h Q ↔ WP 164 0 103 [vA r, a1, a2, a3, a4, a5, a6] (vA r :: S) h Q := wp_aload rfl rfl
theorem s164_103 : WP 164 0 103 [a0, vI x, a2, a3, a4, a5, a6] S h Q ↔ WP 164 0 104 [a0, vI x, a2, a3, a4, a5, a6] (vI x :: S) h Q := wp_iload rfl rfl
theorem s164_104 : WP 164 0 104 [vA r, a1, a2, a3, a4, a5, a6] S h Q ↔ WP 164 0 105 [vA r, a1, a2, a3, a4, a5, a6] (vA r :: S) h Q := wp_aload rfl rfl
theorem s164_105 : WP 164 0 105 L (vA (some a) :: S) h Q ↔ (zhas 58 (hk h a) = true ∧ WP 164 0 108 L (hm h a 58 :: S) h Q) := wp_if rfl rfl rfl
theorem s164_108 : WP 164 0 108 [a0, a1, a2, a3, a4, vI x, a6] S h Q ↔ WP 164 0 110 [a0, a1, a2, a3, a4, vI x, a6] (vI x :: S) h Q := wp_iload rfl rfl
theorem s164_110 : WP 164 0 110 L (vI x :: vA (some a) :: S) h Q ↔ (((hk h a).1 = 1 ∧ 0 ≤ x ∧ x < ((hk h a).2 : Int)) ∧ WP 164 0 111 L (hm h a x.toNat :: S) h Q) := wp_if rfl rfl rfl
theorem s164_111 : WP 164 0 111 L (vI x1 :: vI x0 :: vA (some a) :: S) h Q ↔ ((hk h a).1 = 110 ∧ (zw S ≤ 8 ∧ WP 210 0 0 [vA (some a), vI x0, vI x1] [] h (zret 164 0 111 114 L S Q))) := wp_V1 (c := 110) rfl rfl (fun _ => rfl) rfl rfl (zcan_of rfl rfl) rfl rfl rfl
theorem s164_114 : WP 164 0 114 L (vI y :: vI x :: S) h Q ↔ zif (x < y) (WP 164 0 117 L S h Q) (WP 164 0 153 L S h Q) := wp_bN zc_lt rfl rfl rfl
theorem s164_117 : WP 164 0 117 [a0, a1, a2, a3, vI x, a5, a6] S h Q ↔ WP 164 0 119 [a0, a1, a2, a3, vI x, a5, a6] (vI x :: S) h Q := wp_iload rfl rfl
theorem s164_119 : WP 164 0 119 [a0, a1, a2, vI x, a4, a5, a6] S h Q ↔ WP 164 0 120 [a0, a1, a2, vI x, a4, a5, a6] (vI x :: S) h Q := wp_iload rfl rfl
theorem s164_120 : WP 164 0 120 L (vI y :: vI x :: S) h Q ↔ zif (x < y) (WP 164 0 123 L S h Q) (WP 164 0 153 L S h Q) := wp_bN zc_lt rfl rfl rfl
theorem s164_123 : WP 164 0 123 [vA r, a1, a2, a3, a4, a5, a6] S h Q ↔ WP 164 0 124 [vA r, a1, a2, a3, a4, a5, a6] (vA r :: S) h Q := wp_aload rfl rfl
theorem s164_124 : WP 164 0 124 L (vA (some a) :: S) h Q ↔ (zhas 58 (hk h a) = true ∧ WP 164 0 127 L (hm h a 58 :: S) h Q) := wp_if rfl rfl rfl
theorem s164_127 : WP 164 0 127 [a0, a1, a2, a3, vI x, a5, a6] S h Q ↔ WP 164 0 129 [a0, a1, a2, a3, vI x, a5, a6] (vI x :: S) h Q := wp_iload rfl rfl
theorem s164_129 : WP 164 0 129 [a0, a1, a2, a3, vI x, a5, a6] S h Q ↔ WP 164 0 132 [a0, a1, a2, a3, vI (wr (x + 1)), a5, a6] S h Q := wp_iinc rfl rfl rfl
theorem s164_132 : WP 164 0 132 [vA r, a1, a2, a3, a4, a5, a6] S h Q ↔ WP 164 0 133 [vA r, a1, a2, a3, a4, a5, a6] (vA r :: S) h Q := wp_aload rfl rfl
theorem s164_133 : WP 164 0 133 [a0, vI x, a2, a3, a4, a5, a6] S h Q ↔ WP 164 0 134 [a0, vI x, a2, a3, a4, a5, a6] (vI x :: S) h Q := wp_iload rfl rfl
theorem s164_134 : WP 164 0 134 [vA r, a1, a2, a3, a4, a5, a6] S h Q ↔ WP 164 0 135 [vA r, a1, a2, a3, a4, a5, a6] (vA r :: S) h Q := wp_aload rfl rfl
theorem s164_135 : WP 164 0 135 L (vA (some a) :: S) h Q ↔ (zhas 58 (hk h a) = true ∧ WP 164 0 138 L (hm h a 58 :: S) h Q) := wp_if rfl rfl rfl
theorem s164_138 : WP 164 0 138 [a0, a1, a2, a3, a4, vI x, a6] S h Q ↔ WP 164 0 140 [a0, a1, a2, a3, a4, vI x, a6] (vI x :: S) h Q := wp_iload rfl rfl
theorem s164_140 : WP 164 0 140 L (vI x :: vA (some a) :: S) h Q ↔ (((hk h a).1 = 1 ∧ 0 ≤ x ∧ x < ((hk h a).2 : Int)) ∧ WP 164 0 141 L (hm h a x.toNat :: S) h Q) := wp_if rfl rfl rfl
theorem s164_141 : WP 164 0 141 [a0, a1, a2, a3, a4, a5, vI x] S h Q ↔ WP 164 0 143 [a0, a1, a2, a3, a4, a5, vI x] (vI x :: S) h Q := wp_iload rfl rfl
theorem s164_143 : WP 164 0 143 L (vI x2 :: vI x1 :: vI x0 :: vA (some a) :: S) h Q ↔ ((hk h a).1 = 110 ∧ (zw S ≤ 8 ∧ WP 180 0 0 [vA (some a), vI x0, vI x1, vI x2] [] h (zret 164 0 143 146 L S Q))) := wp_V1 (c := 110) rfl rfl (fun _ => rfl) rfl rfl (zcan_of rfl rfl) rfl rfl rfl
theorem s164_146 : WP 164 0 146 L (vI y :: vI x :: vA (some a) :: S) h Q ↔ (((hk h a).1 = 1 ∧ (0 ≤ x ∧ x < ((hk h a).2 : Int)) ∧ zNC ≤ a) ∧ WP 164 0 147 L S (hput h a x.toNat (vI y)) Q) := wp_if rfl rfl rfl
theorem s164_147 : WP 164 0 147 [a0, a1, a2, a3, a4, a5, vI x] S h Q ↔ WP 164 0 150 [a0, a1, a2, a3, a4, a5, vI (wr (x + 1))] S h Q := wp_iinc rfl rfl rfl
theorem s164_150 : WP 164 0 150 L S h Q ↔ WP 164 0 100 L S h Q := wp_pl rfl rfl rfl
theorem s164_153 : WP 164 0 153 [a0, a1, a2, a3, a4, vI x, a6] S h Q ↔ WP 164 0 156 [a0, a1, a2, a3, a4, vI (wr (x + 1)), a6] S h Q := wp_iinc rfl rfl rfl
theorem s164_156 : WP 164 0 156 L S h Q ↔ WP 164 0 82 L S h Q := wp_pl rfl rfl rfl
theorem s164_159 : WP 164 0 159 [vA r, a1, a2, a3, a4, a5, a6] S h Q ↔ WP 164 0 160 [vA r, a1, a2, a3, a4, a5, a6] (vA r :: S) h Q := wp_aload rfl rfl
theorem s164_160 : WP 164 0 160 [a0, a1, a2, vI x, a4, a5, a6] S h Q ↔ WP 164 0 161 [a0, a1, a2, vI x, a4, a5, a6] (vI x :: S) h Q := wp_iload rfl rfl
theorem s164_161 : WP 164 0 161 L (vI x0 :: vA (some a) :: S) h Q ↔ ((hk h a).1 = 110 ∧ (zw S ≤ 8 ∧ WP 142 0 0 [vA (some a), vI x0, vJ] [] h (zret 164 0 161 164 L S Q))) := wp_V1 (c := 110) rfl rfl (fun _ => rfl) rfl rfl (zcan_of rfl rfl) rfl rfl rfl
theorem s164_164 : WP 164 0 164 [vA r, a1, a2, a3, a4, a5, a6] S h Q ↔ WP 164 0 165 [vA r, a1, a2, a3, a4, a5, a6] (vA r :: S) h Q := wp_aload rfl rfl
theorem s164_165 : WP 164 0 165 L (vA (some a) :: S) h Q ↔ ((hk h a).1 = 110 ∧ (zw S ≤ 8 ∧ WP 158 0 0 [vA (some a), vJ] [] h (zret 164 0 165 168 L S Q))) := wp_V1 (c := 110) rfl rfl (fun _ => rfl) rfl rfl (zcan_of rfl rfl) rfl rfl rfl
theorem s164_168 : WP 164 0 168 L [vI x] h Q ↔ Q (.inl (some (vI x))) h := wp_iret0 rfl rfl
/-! RepeatFreeModel.first(I)I -/
theorem s165_0 : WP 165 0 0 [vA r, a1, a2] S h Q ↔ WP 165 0 1 [vA r, a1, a2] (vA r :: S) h Q := wp_aload rfl rfl
theorem s165_1 : WP 165 0 1 L S h Q ↔ WP 165 0 2 L (vI 0 :: S) h Q := wp_pl rfl rfl rfl
theorem s165_2 : WP 165 0 2 L (vI x :: vA (some a) :: S) h Q ↔ ((zNC ≤ a ∧ zhas 45 (hk h a) = true) ∧ WP 165 0 5 L S (hput h a 45 (vI x)) Q) := wp_put0 rfl rfl
theorem s165_5 : WP 165 0 5 [vA r, a1, a2] S h Q ↔ WP 165 0 6 [vA r, a1, a2] (vA r :: S) h Q := wp_aload rfl rfl
theorem s165_6 : WP 165 0 6 [a0, vI x, a2] S h Q ↔ WP 165 0 7 [a0, vI x, a2] (vI x :: S) h Q := wp_iload rfl rfl
theorem s165_7 : WP 165 0 7 L S h Q ↔ WP 165 0 8 L (vI 1 :: S) h Q := wp_pl rfl rfl rfl
theorem s165_8 : WP 165 0 8 L S h Q ↔ WP 165 0 10 L (vI 40 :: S) h Q := wp_pl rfl rfl rfl
theorem s165_10 : WP 165 0 10 L (vI x2 :: vI x1 :: vI x0 :: S) h Q ↔ (zw S ≤ 8 ∧ WP 183 0 0 [vI x0, vI x1, vI x2] [] h (zret 165 0 10 13 L S Q)) := wp_S rfl rfl (zcan_of rfl rfl) rfl rfl rfl
theorem s165_13 : WP 165 0 13 L (vI x :: S) h Q ↔ zif (x = 0) (WP 165 0 16 L S h Q) (WP 165 0 20 L S h Q) := wp_bN zc_eq rfl rfl rfl
theorem s165_16 : WP 165 0 16 L S h Q ↔ WP 165 0 17 L (vI 1 :: S) h Q := wp_pl rfl rfl rfl
theorem s165_17 : WP 165 0 17 L S h Q ↔ WP 165 0 21 L S h Q := wp_pl rfl rfl rfl
theorem s165_20 : WP 165 0 20 L S h Q ↔ WP 165 0 21 L (vI 0 :: S) h Q := wp_pl rfl rfl rfl
theorem s165_21 : WP 165 0 21 L S h Q ↔ WP 165 0 22 L (vI 1 :: S) h Q := wp_pl rfl rfl rfl
theorem s165_22 : WP 165 0 22 L (vI x1 :: vI x0 :: vA (some a) :: S) h Q ↔ ((hk h a).1 = 110 ∧ (zw S ≤ 8 ∧ WP 248 0 0 [vA (some a), vI x0, vI x1] [] h (zret 165 0 22 25 L S Q))) := wp_V1 (c := 110) rfl rfl (fun _ => rfl) rfl rfl (zcan_of rfl rfl) rfl rfl rfl
theorem s165_25 : WP 165 0 25 L (vI x :: S) h Q ↔ zif (x = 0) (WP 165 0 30 L S h Q) (WP 165 0 28 L S h Q) := wp_bE zc_eq rfl rfl rfl
theorem s165_28 : WP 165 0 28 L S h Q ↔ WP 165 0 29 L (vI 0 :: S) h Q := wp_pl rfl rfl rfl
theorem s165_29 : WP 165 0 29 L [vI x] h Q ↔ Q (.inl (some (vI x))) h := wp_iret0 rfl rfl
theorem s165_30 : WP 165 0 30 [vA r, a1, a2] S h Q ↔ WP 165 0 31 [vA r, a1, a2] (vA r :: S) h Q := wp_aload rfl rfl
theorem s165_31 : WP 165 0 31 L (vA (some a) :: S) h Q ↔ ((hk h a).1 = 110 ∧ (zw S ≤ 8 ∧ WP 243 0 0 [vA (some a)] [] h (zret 165 0 31 34 L S Q))) := wp_V1 (c := 110) rfl rfl (fun _ => rfl) rfl rfl (zcan_of rfl rfl) rfl rfl rfl
theorem s165_34 : WP 165 0 34 [vA r, a1, a2] S h Q ↔ WP 165 0 35 [vA r, a1, a2] (vA r :: S) h Q := wp_aload rfl rfl
theorem s165_35 : WP 165 0 35 L S h Q ↔ WP 165 0 36 L (vI 0 :: S) h Q := wp_pl rfl rfl rfl
theorem s165_36 : WP 165 0 36 [a0, vI x, a2] S h Q ↔ WP 165 0 37 [a0, vI x, a2] (vI x :: S) h Q := wp_iload rfl rfl
theorem s165_37 : WP 165 0 37 L S h Q ↔ WP 165 0 38 L (vI 0 :: S) h Q := wp_pl rfl rfl rfl
theorem s165_38 : WP 165 0 38 L (vI x2 :: vI x1 :: vI x0 :: vA (some a) :: S) h Q ↔ ((hk h a).1 = 110 ∧ (zw S ≤ 8 ∧ WP 241 44 0 [vA (some a), vI x0, vI x1, vI x2, vJ] [] h (zret 165 0 38 41 L S Q))) := wp_V1 (c := 110) rfl rfl (fun _ => rfl) rfl rfl (zcan_of rfl rfl) rfl rfl rfl
theorem s165_41 : WP 165 0 41 [a0, a1, a2] (vI x :: S) h Q ↔ WP 165 0 42 [a0, a1, vI x] S h Q := wp_istore rfl rfl rfl
theorem s165_42 : WP 165 0 42 [vA r, a1, a2] S h Q ↔ WP 165 0 43 [vA r, a1, a2] (vA r :: S) h Q := wp_aload rfl rfl
theorem s165_43 : WP 165 0 43 L (vA (some a) :: S) h Q ↔ (zhas 67 (hk h a) = true ∧ WP 165 0 46 L (hm h a 67 :: S) h Q) := wp_if rfl rfl rfl
theorem s165_46 : WP 165 0 46 L (vI x :: S) h Q ↔ zif (x = 0) (WP 165 0 52 L S h Q) (WP 165 0 49 L S h Q) := wp_bE zc_eq rfl rfl rfl
theorem s165_49 : WP 165 0 49 L S h Q ↔ WP 165 0 51 L (vI (-2) :: S) h Q := wp_pl rfl rfl rfl
theorem s165_51 : WP 165 0 51 L [vI x] h Q ↔ Q (.inl (some (vI x))) h := wp_iret0 rfl rfl
theorem s165_52 : WP 165 0 52 [vA r, a1, a2] S h Q ↔ WP 165 0 53 [vA r, a1, a2] (vA r :: S) h Q := wp_aload rfl rfl
theorem s165_53 : WP 165 0 53 L (vA (some a) :: S) h Q ↔ (zhas 70 (hk h a) = true ∧ WP 165 0 56 L (hm h a 70 :: S) h Q) := wp_if rfl rfl rfl
theorem s165_56 : WP 165 0 56 L (vI x :: S) h Q ↔ zif (x = 0) (WP 165 0 59 L S h Q) (WP 165 0 61 L S h Q) := wp_bN zc_eq rfl rfl rfl
theorem s165_59 : WP 165 0 59 L S h Q ↔ WP 165 0 60 L (vI (-1) :: S) h Q := wp_pl rfl rfl rfl
theorem s165_60 : WP 165 0 60 L [vI x] h Q ↔ Q (.inl (some (vI x))) h := wp_iret0 rfl rfl
theorem s165_61 : WP 165 0 61 [vA r, a1, a2] S h Q ↔ WP 165 0 62 [vA r, a1, a2] (vA r :: S) h Q := wp_aload rfl rfl
theorem s165_62 : WP 165 0 62 [a0, vI x, a2] S h Q ↔ WP 165 0 63 [a0, vI x, a2] (vI x :: S) h Q := wp_iload rfl rfl
theorem s165_63 : WP 165 0 63 L (vI x0 :: vA (some a) :: S) h Q ↔ ((hk h a).1 = 110 ∧ (zw S ≤ 8 ∧ WP 143 0 0 [vA (some a), vI x0, vJ] [] h (zret 165 0 63 66 L S Q))) := wp_V1 (c := 110) rfl rfl (fun _ => rfl) rfl rfl (zcan_of rfl rfl) rfl rfl rfl
theorem s165_66 : WP 165 0 66 [vA r, a1, a2] S h Q ↔ WP 165 0 67 [vA r, a1, a2] (vA r :: S) h Q := wp_aload rfl rfl
theorem s165_67 : WP 165 0 67 L (vA (some a) :: S) h Q ↔ (zhas 65 (hk h a) = true ∧ WP 165 0 70 L (hm h a 65 :: S) h Q) := wp_if rfl rfl rfl
theorem s165_70 : WP 165 0 70 L [vI x] h Q ↔ Q (.inl (some (vI x))) h := wp_iret0 rfl rfl
/-! RepeatFreeModel.firstSizes(II)Z -/
theorem s166_0 : WP 166 0 0 L S h Q ↔ WP 166 0 1 L (vI 0 :: S) h Q := wp_pl rfl rfl rfl
theorem s166_1 : WP 166 0 1 [a0, a1, a2, a3] (vI x :: S) h Q ↔ WP 166 0 2 [a0, a1, a2, vI x] S h Q := wp_istore rfl rfl rfl
theorem s166_2 : WP 166 0 2 [a0, a1, a2, vI x] S h Q ↔ WP 166 0 3 [a0, a1, a2, vI x] (vI x :: S) h Q := wp_iload rfl rfl
theorem s166_3 : WP 166 0 3 L S h Q ↔ WP 166 0 4 L (vI 3 :: S) h Q := wp_pl rfl rfl rfl
theorem s166_4 : WP 166 0 4 L (vI y :: vI x :: S) h Q ↔ zif (x < y) (WP 166 0 7 L S h Q) (WP 166 0 33 L S h Q) := wp_bN zc_lt rfl rfl rfl
theorem s166_7 : WP 166 0 7 [vA r, a1, a2, a3] S h Q ↔ WP 166 0 8 [vA r, a1, a2, a3] (vA r :: S) h Q := wp_aload rfl rfl
theorem s166_8 : WP 166 0 8 L (vA (some a) :: S) h Q ↔ (zhas 62 (hk h a) = true ∧ WP 166 0 11 L (hm h a 62 :: S) h Q) := wp_if rfl rfl rfl
theorem s166_11 : WP 166 0 11 [a0, a1, a2, vI x] S h Q ↔ WP 166 0 12 [a0, a1, a2, vI x] (vI x :: S) h Q := wp_iload rfl rfl
theorem s166_12 : WP 166 0 12 [vA r, a1, a2, a3] S h Q ↔ WP 166 0 13 [vA r, a1, a2, a3] (vA r :: S) h Q := wp_aload rfl rfl
theorem s166_13 : WP 166 0 13 [a0, vI x, a2, a3] S h Q ↔ WP 166 0 14 [a0, vI x, a2, a3] (vI x :: S) h Q := wp_iload rfl rfl
theorem s166_14 : WP 166 0 14 [a0, a1, a2, vI x] S h Q ↔ WP 166 0 15 [a0, a1, a2, vI x] (vI x :: S) h Q := wp_iload rfl rfl
theorem s166_15 : WP 166 0 15 L (vI x1 :: vI x0 :: vA (some a) :: S) h Q ↔ ((hk h a).1 = 110 ∧ (zw S ≤ 8 ∧ WP 178 0 0 [vA (some a), vI x0, vI x1, vJ] [] h (zret 166 0 15 18 L S Q))) := wp_V1 (c := 110) rfl rfl (fun _ => rfl) rfl rfl (zcan_of rfl rfl) rfl rfl rfl
theorem s166_18 : WP 166 0 18 L (vI x :: S) h Q ↔ zif (x = 0) (WP 166 0 25 L S h Q) (WP 166 0 21 L S h Q) := wp_bE zc_eq rfl rfl rfl
theorem s166_21 : WP 166 0 21 L S h Q ↔ WP 166 0 22 L (vI 1 :: S) h Q := wp_pl rfl rfl rfl
theorem s166_22 : WP 166 0 22 L S h Q ↔ WP 166 0 26 L S h Q := wp_pl rfl rfl rfl
theorem s166_25 : WP 166 0 25 L S h Q ↔ WP 166 0 26 L (vI 0 :: S) h Q := wp_pl rfl rfl rfl
theorem s166_26 : WP 166 0 26 L (vI y :: vI x :: vA (some a) :: S) h Q ↔ (((hk h a).1 = 1 ∧ (0 ≤ x ∧ x < ((hk h a).2 : Int)) ∧ zNC ≤ a) ∧ WP 166 0 27 L S (hput h a x.toNat (vI y)) Q) := wp_if rfl rfl rfl
theorem s166_27 : WP 166 0 27 [a0, a1, a2, vI x] S h Q ↔ WP 166 0 30 [a0, a1, a2, vI (wr (x + 1))] S h Q := wp_iinc rfl rfl rfl
theorem s166_30 : WP 166 0 30 L S h Q ↔ WP 166 0 2 L S h Q := wp_pl rfl rfl rfl
theorem s166_33 : WP 166 0 33 [vA r, a1, a2, a3] S h Q ↔ WP 166 0 34 [vA r, a1, a2, a3] (vA r :: S) h Q := wp_aload rfl rfl
theorem s166_34 : WP 166 0 34 [a0, vI x, a2, a3] S h Q ↔ WP 166 0 35 [a0, vI x, a2, a3] (vI x :: S) h Q := wp_iload rfl rfl
theorem s166_35 : WP 166 0 35 L (vI x0 :: vA (some a) :: S) h Q ↔ ((hk h a).1 = 110 ∧ (zw S ≤ 8 ∧ WP 209 0 0 [vA (some a), vI x0, vJ, vJ] [] h (zret 166 0 35 38 L S Q))) := wp_V1 (c := 110) rfl rfl (fun _ => rfl) rfl rfl (zcan_of rfl rfl) rfl rfl rfl
theorem s166_38 : WP 166 0 38 [a0, a1, vI x, a3] S h Q ↔ WP 166 0 39 [a0, a1, vI x, a3] (vI x :: S) h Q := wp_iload rfl rfl
theorem s166_39 : WP 166 0 39 L (vI y :: vI x :: S) h Q ↔ zif (y < x) (WP 166 0 46 L S h Q) (WP 166 0 42 L S h Q) := wp_bE zc_gt rfl rfl rfl
theorem s166_42 : WP 166 0 42 L S h Q ↔ WP 166 0 43 L (vI 1 :: S) h Q := wp_pl rfl rfl rfl
theorem s166_43 : WP 166 0 43 L S h Q ↔ WP 166 0 47 L S h Q := wp_pl rfl rfl rfl
theorem s166_46 : WP 166 0 46 L S h Q ↔ WP 166 0 47 L (vI 0 :: S) h Q := wp_pl rfl rfl rfl
theorem s166_47 : WP 166 0 47 L [vI x] h Q ↔ ((x = 0 ∨ x = 1) ∧ Q (.inl (some (vI x))) h) := wp_iret rfl rfl
/-! RepeatFreeModel.fitsAt([III)Z -/
theorem s167_0 : WP 167 0 0 [a0, a1, vI x, a3, a4, a5, a6, a7] S h Q ↔ WP 167 0 1 [a0, a1, vI x, a3, a4, a5, a6, a7] (vI x :: S) h Q := wp_iload rfl rfl
theorem s167_1 : WP 167 0 1 [a0, a1, a2, a3, a4, a5, a6, a7] (vI x :: S) h Q ↔ WP 167 0 3 [a0, a1, a2, a3, vI x, a5, a6, a7] S h Q := wp_istore rfl rfl rfl
theorem s167_3 : WP 167 0 3 L S h Q ↔ WP 167 0 4 L (vI 0 :: S) h Q := wp_pl rfl rfl rfl
theorem s167_4 : WP 167 0 4 [a0, a1, a2, a3, a4, a5, a6, a7] (vI x :: S) h Q ↔ WP 167 0 6 [a0, a1, a2, a3, a4, vI x, a6, a7] S h Q := wp_istore rfl rfl rfl
theorem s167_6 : WP 167 0 6 [a0, a1, a2, a3, a4, vI x, a6, a7] S h Q ↔ WP 167 0 8 [a0, a1, a2, a3, a4, vI x, a6, a7] (vI x :: S) h Q := wp_iload rfl rfl
theorem s167_8 : WP 167 0 8 L S h Q ↔ WP 167 0 9 L (vI 3 :: S) h Q := wp_pl rfl rfl rfl
theorem s167_9 : WP 167 0 9 L (vI y :: vI x :: S) h Q ↔ zif (x < y) (WP 167 0 12 L S h Q) (WP 167 0 26 L S h Q) := wp_bN zc_lt rfl rfl rfl
theorem s167_12 : WP 167 0 12 [vA r, a1, a2, a3, a4, a5, a6, a7] S h Q ↔ WP 167 0 13 [vA r, a1, a2, a3, a4, a5, a6, a7] (vA r :: S) h Q := wp_aload rfl rfl
theorem s167_13 : WP 167 0 13 L (vA (some a) :: S) h Q ↔ (zhas 63 (hk h a) = true ∧ WP 167 0 16 L (hm h a 63 :: S) h Q) := wp_if rfl rfl rfl
theorem s167_16 : WP 167 0 16 [a0, a1, a2, a3, a4, vI x, a6, a7] S h Q ↔ WP 167 0 18 [a0, a1, a2, a3, a4, vI x, a6, a7] (vI x :: S) h Q := wp_iload rfl rfl
theorem s167_18 : WP 167 0 18 L S h Q ↔ WP 167 0 19 L (vI (-1) :: S) h Q := wp_pl rfl rfl rfl
theorem s167_19 : WP 167 0 19 L (vI y :: vI x :: vA (some a) :: S) h Q ↔ (((hk h a).1 = 1 ∧ (0 ≤ x ∧ x < ((hk h a).2 : Int)) ∧ zNC ≤ a) ∧ WP 167 0 20 L S (hput h a x.toNat (vI y)) Q) := wp_if rfl rfl rfl
theorem s167_20 : WP 167 0 20 [a0, a1, a2, a3, a4, vI x, a6, a7] S h Q ↔ WP 167 0 23 [a0, a1, a2, a3, a4, vI (wr (x + 1)), a6, a7] S h Q := wp_iinc rfl rfl rfl
theorem s167_23 : WP 167 0 23 L S h Q ↔ WP 167 0 6 L S h Q := wp_pl rfl rfl rfl
theorem s167_26 : WP 167 0 26 L S h Q ↔ WP 167 0 27 L (vI 0 :: S) h Q := wp_pl rfl rfl rfl
theorem s167_27 : WP 167 0 27 [a0, a1, a2, a3, a4, a5, a6, a7] (vI x :: S) h Q ↔ WP 167 0 29 [a0, a1, a2, a3, a4, vI x, a6, a7] S h Q := wp_istore rfl rfl rfl
theorem s167_29 : WP 167 0 29 [a0, a1, a2, a3, a4, vI x, a6, a7] S h Q ↔ WP 167 0 31 [a0, a1, a2, a3, a4, vI x, a6, a7] (vI x :: S) h Q := wp_iload rfl rfl
theorem s167_31 : WP 167 0 31 [vA r, a1, a2, a3, a4, a5, a6, a7] S h Q ↔ WP 167 0 32 [vA r, a1, a2, a3, a4, a5, a6, a7] (vA r :: S) h Q := wp_aload rfl rfl
theorem s167_32 : WP 167 0 32 L (vA (some a) :: S) h Q ↔ (zhas 54 (hk h a) = true ∧ WP 167 0 35 L (hm h a 54 :: S) h Q) := wp_if rfl rfl rfl
theorem s167_35 : WP 167 0 35 L S h Q ↔ WP 167 0 38 L (vI 166 :: S) h Q := wp_pl rfl rfl rfl
theorem s167_38 : WP 167 0 38 [a0, a1, a2, vI x, a4, a5, a6, a7] S h Q ↔ WP 167 0 39 [a0, a1, a2, vI x, a4, a5, a6, a7] (vI x :: S) h Q := wp_iload rfl rfl
theorem s167_39 : WP 167 0 39 L (vI y :: vI x :: S) h Q ↔ WP 167 0 40 L (vI (wr (x + y)) :: S) h Q := wp_pl rfl rfl rfl
theorem s167_40 : WP 167 0 40 L (vI x :: vA (some a) :: S) h Q ↔ (((hk h a).1 = 1 ∧ 0 ≤ x ∧ x < ((hk h a).2 : Int)) ∧ WP 167 0 41 L (hm h a x.toNat :: S) h Q) := wp_if rfl rfl rfl
theorem s167_41 : WP 167 0 41 L (vI y :: vI x :: S) h Q ↔ zif (x < y) (WP 167 0 44 L S h Q) (WP 167 0 136 L S h Q) := wp_bN zc_lt rfl rfl rfl
theorem s167_44 : WP 167 0 44 [vA r, a1, a2, a3, a4, a5, a6, a7] S h Q ↔ WP 167 0 45 [vA r, a1, a2, a3, a4, a5, a6, a7] (vA r :: S) h Q := wp_aload rfl rfl
theorem s167_45 : WP 167 0 45 [a0, a1, a2, vI x, a4, a5, a6, a7] S h Q ↔ WP 167 0 46 [a0, a1, a2, vI x, a4, a5, a6, a7] (vI x :: S) h Q := wp_iload rfl rfl
theorem s167_46 : WP 167 0 46 [a0, a1, a2, a3, a4, vI x, a6, a7] S h Q ↔ WP 167 0 48 [a0, a1, a2, a3, a4, vI x, a6, a7] (vI x :: S) h Q := wp_iload rfl rfl
theorem s167_48 : WP 167 0 48 L (vI x1 :: vI x0 :: vA (some a) :: S) h Q ↔ ((hk h a).1 = 110 ∧ (zw S ≤ 8 ∧ WP 202 0 0 [vA (some a), vI x0, vI x1] [] h (zret 167 0 48 51 L S Q))) := wp_V1 (c := 110) rfl rfl (fun _ => rfl) rfl rfl (zcan_of rfl rfl) rfl rfl rfl
theorem s167_51 : WP 167 0 51 [a0, a1, a2, a3, a4, a5, a6, a7] (vI x :: S) h Q ↔ WP 167 0 53 [a0, a1, a2, a3, a4, a5, vI x, a7] S h Q := wp_istore rfl rfl rfl
theorem s167_53 : WP 167 0 53 [vA r, a1, a2, a3, a4, a5, a6, a7] S h Q ↔ WP 167 0 54 [vA r, a1, a2, a3, a4, a5, a6, a7] (vA r :: S) h Q := wp_aload rfl rfl
theorem s167_54 : WP 167 0 54 L (vA (some a) :: S) h Q ↔ (zhas 63 (hk h a) = true ∧ WP 167 0 57 L (hm h a 63 :: S) h Q) := wp_if rfl rfl rfl
theorem s167_57 : WP 167 0 57 [a0, a1, a2, a3, a4, a5, vI x, a7] S h Q ↔ WP 167 0 59 [a0, a1, a2, a3, a4, a5, vI x, a7] (vI x :: S) h Q := wp_iload rfl rfl
theorem s167_59 : WP 167 0 59 L (vI x :: vA (some a) :: S) h Q ↔ (((hk h a).1 = 1 ∧ 0 ≤ x ∧ x < ((hk h a).2 : Int)) ∧ WP 167 0 60 L (hm h a x.toNat :: S) h Q) := wp_if rfl rfl rfl
theorem s167_60 : WP 167 0 60 L S h Q ↔ WP 167 0 61 L (vI (-1) :: S) h Q := wp_pl rfl rfl rfl
theorem s167_61 : WP 167 0 61 L (vI y :: vI x :: S) h Q ↔ zif (x = y) (WP 167 0 64 L S h Q) (WP 167 0 73 L S h Q) := wp_bN zc_eq rfl rfl rfl
theorem s167_64 : WP 167 0 64 [vA r, a1, a2, a3, a4, a5, a6, a7] S h Q ↔ WP 167 0 65 [vA r, a1, a2, a3, a4, a5, a6, a7] (vA r :: S) h Q := wp_aload rfl rfl
theorem s167_65 : WP 167 0 65 L (vA (some a) :: S) h Q ↔ (zhas 63 (hk h a) = true ∧ WP 167 0 68 L (hm h a 63 :: S) h Q) := wp_if rfl rfl rfl
theorem s167_68 : WP 167 0 68 [a0, a1, a2, a3, a4, a5, vI x, a7] S h Q ↔ WP 167 0 70 [a0, a1, a2, a3, a4, a5, vI x, a7] (vI x :: S) h Q := wp_iload rfl rfl
theorem s167_70 : WP 167 0 70 [a0, a1, a2, a3, vI x, a5, a6, a7] S h Q ↔ WP 167 0 72 [a0, a1, a2, a3, vI x, a5, a6, a7] (vI x :: S) h Q := wp_iload rfl rfl
theorem s167_72 : WP 167 0 72 L (vI y :: vI x :: vA (some a) :: S) h Q ↔ (((hk h a).1 = 1 ∧ (0 ≤ x ∧ x < ((hk h a).2 : Int)) ∧ zNC ≤ a) ∧ WP 167 0 73 L S (hput h a x.toNat (vI y)) Q) := wp_if rfl rfl rfl
theorem s167_73 : WP 167 0 73 L S h Q ↔ WP 167 0 74 L (vI 0 :: S) h Q := wp_pl rfl rfl rfl
theorem s167_74 : WP 167 0 74 [a0, a1, a2, a3, a4, a5, a6, a7] (vI x :: S) h Q ↔ WP 167 0 76 [a0, a1, a2, a3, a4, a5, a6, vI x] S h Q := wp_istore rfl rfl rfl
theorem s167_76 : WP 167 0 76 [a0, a1, a2, a3, a4, a5, a6, vI x] S h Q ↔ WP 167 0 78 [a0, a1, a2, a3, a4, a5, a6, vI x] (vI x :: S) h Q := wp_iload rfl rfl
theorem s167_78 : WP 167 0 78 [vA r, a1, a2, a3, a4, a5, a6, a7] S h Q ↔ WP 167 0 79 [vA r, a1, a2, a3, a4, a5, a6, a7] (vA r :: S) h Q := wp_aload rfl rfl
theorem s167_79 : WP 167 0 79 L (vA (some a) :: S) h Q ↔ (zhas 62 (hk h a) = true ∧ WP 167 0 82 L (hm h a 62 :: S) h Q) := wp_if rfl rfl rfl
theorem s167_82 : WP 167 0 82 [a0, a1, a2, a3, a4, a5, vI x, a7] S h Q ↔ WP 167 0 84 [a0, a1, a2, a3, a4, a5, vI x, a7] (vI x :: S) h Q := wp_iload rfl rfl
theorem s167_84 : WP 167 0 84 L (vI x :: vA (some a) :: S) h Q ↔ (((hk h a).1 = 1 ∧ 0 ≤ x ∧ x < ((hk h a).2 : Int)) ∧ WP 167 0 85 L (hm h a x.toNat :: S) h Q) := wp_if rfl rfl rfl
theorem s167_85 : WP 167 0 85 L (vI y :: vI x :: S) h Q ↔ zif (x < y) (WP 167 0 88 L S h Q) (WP 167 0 118 L S h Q) := wp_bN zc_lt rfl rfl rfl
theorem s167_88 : WP 167 0 88 [a0, vA r, a2, a3, a4, a5, a6, a7] S h Q ↔ WP 167 0 89 [a0, vA r, a2, a3, a4, a5, a6, a7] (vA r :: S) h Q := wp_aload rfl rfl
theorem s167_89 : WP 167 0 89 [vA r, a1, a2, a3, a4, a5, a6, a7] S h Q ↔ WP 167 0 90 [vA r, a1, a2, a3, a4, a5, a6, a7] (vA r :: S) h Q := wp_aload rfl rfl
theorem s167_90 : WP 167 0 90 L (vA (some a) :: S) h Q ↔ (zhas 63 (hk h a) = true ∧ WP 167 0 93 L (hm h a 63 :: S) h Q) := wp_if rfl rfl rfl
theorem s167_93 : WP 167 0 93 [a0, a1, a2, a3, a4, a5, vI x, a7] S h Q ↔ WP 167 0 95 [a0, a1, a2, a3, a4, a5, vI x, a7] (vI x :: S) h Q := wp_iload rfl rfl
theorem s167_95 : WP 167 0 95 L (vI x :: vA (some a) :: S) h Q ↔ (((hk h a).1 = 1 ∧ 0 ≤ x ∧ x < ((hk h a).2 : Int)) ∧ WP 167 0 96 L (hm h a x.toNat :: S) h Q) := wp_if rfl rfl rfl
theorem s167_96 : WP 167 0 96 [a0, a1, a2, a3, a4, a5, a6, vI x] S h Q ↔ WP 167 0 98 [a0, a1, a2, a3, a4, a5, a6, vI x] (vI x :: S) h Q := wp_iload rfl rfl
theorem s167_98 : WP 167 0 98 L (vI y :: vI x :: S) h Q ↔ WP 167 0 99 L (vI (wr (x + y)) :: S) h Q := wp_pl rfl rfl rfl
theorem s167_99 : WP 167 0 99 L (vI x :: vA (some a) :: S) h Q ↔ (((hk h a).1 = 1 ∧ 0 ≤ x ∧ x < ((hk h a).2 : Int)) ∧ WP 167 0 100 L (hm h a x.toNat :: S) h Q) := wp_if rfl rfl rfl
theorem s167_100 : WP 167 0 100 [a0, vA r, a2, a3, a4, a5, a6, a7] S h Q ↔ WP 167 0 101 [a0, vA r, a2, a3, a4, a5, a6, a7] (vA r :: S) h Q := wp_aload rfl rfl
theorem s167_101 : WP 167 0 101 [a0, a1, a2, a3, vI x, a5, a6, a7] S h Q ↔ WP 167 0 103 [a0, a1, a2, a3, vI x, a5, a6, a7] (vI x :: S) h Q := wp_iload rfl rfl
theorem s167_103 : WP 167 0 103 [a0, a1, a2, a3, a4, a5, a6, vI x] S h Q ↔ WP 167 0 105 [a0, a1, a2, a3, a4, a5, a6, vI x] (vI x :: S) h Q := wp_iload rfl rfl
theorem s167_105 : WP 167 0 105 L (vI y :: vI x :: S) h Q ↔ WP 167 0 106 L (vI (wr (x + y)) :: S) h Q := wp_pl rfl rfl rfl
theorem s167_106 : WP 167 0 106 L (vI x :: vA (some a) :: S) h Q ↔ (((hk h a).1 = 1 ∧ 0 ≤ x ∧ x < ((hk h a).2 : Int)) ∧ WP 167 0 107 L (hm h a x.toNat :: S) h Q) := wp_if rfl rfl rfl
theorem s167_107 : WP 167 0 107 L (vI y :: vI x :: S) h Q ↔ zif (x = y) (WP 167 0 112 L S h Q) (WP 167 0 110 L S h Q) := wp_bE zc_eq rfl rfl rfl
theorem s167_110 : WP 167 0 110 L S h Q ↔ WP 167 0 111 L (vI 0 :: S) h Q := wp_pl rfl rfl rfl
theorem s167_111 : WP 167 0 111 L [vI x] h Q ↔ ((x = 0 ∨ x = 1) ∧ Q (.inl (some (vI x))) h) := wp_iret rfl rfl
theorem s167_112 : WP 167 0 112 [a0, a1, a2, a3, a4, a5, a6, vI x] S h Q ↔ WP 167 0 115 [a0, a1, a2, a3, a4, a5, a6, vI (wr (x + 1))] S h Q := wp_iinc rfl rfl rfl
theorem s167_115 : WP 167 0 115 L S h Q ↔ WP 167 0 76 L S h Q := wp_pl rfl rfl rfl
theorem s167_118 : WP 167 0 118 [a0, a1, a2, a3, vI x, a5, a6, a7] S h Q ↔ WP 167 0 120 [a0, a1, a2, a3, vI x, a5, a6, a7] (vI x :: S) h Q := wp_iload rfl rfl
theorem s167_120 : WP 167 0 120 [vA r, a1, a2, a3, a4, a5, a6, a7] S h Q ↔ WP 167 0 121 [vA r, a1, a2, a3, a4, a5, a6, a7] (vA r :: S) h Q := wp_aload rfl rfl
theorem s167_121 : WP 167 0 121 L (vA (some a) :: S) h Q ↔ (zhas 62 (hk h a) = true ∧ WP 167 0 124 L (hm h a 62 :: S) h Q) := wp_if rfl rfl rfl
theorem s167_124 : WP 167 0 124 [a0, a1, a2, a3, a4, a5, vI x, a7] S h Q ↔ WP 167 0 126 [a0, a1, a2, a3, a4, a5, vI x, a7] (vI x :: S) h Q := wp_iload rfl rfl
theorem s167_126 : WP 167 0 126 L (vI x :: vA (some a) :: S) h Q ↔ (((hk h a).1 = 1 ∧ 0 ≤ x ∧ x < ((hk h a).2 : Int)) ∧ WP 167 0 127 L (hm h a x.toNat :: S) h Q) := wp_if rfl rfl rfl
theorem s167_127 : WP 167 0 127 L (vI y :: vI x :: S) h Q ↔ WP 167 0 128 L (vI (wr (x + y)) :: S) h Q := wp_pl rfl rfl rfl
theorem s167_128 : WP 167 0 128 [a0, a1, a2, a3, a4, a5, a6, a7] (vI x :: S) h Q ↔ WP 167 0 130 [a0, a1, a2, a3, vI x, a5, a6, a7] S h Q := wp_istore rfl rfl rfl
theorem s167_130 : WP 167 0 130 [a0, a1, a2, a3, a4, vI x, a6, a7] S h Q ↔ WP 167 0 133 [a0, a1, a2, a3, a4, vI (wr (x + 1)), a6, a7] S h Q := wp_iinc rfl rfl rfl
theorem s167_133 : WP 167 0 133 L S h Q ↔ WP 167 0 29 L S h Q := wp_pl rfl rfl rfl
theorem s167_136 : WP 167 0 136 L S h Q ↔ WP 167 0 137 L (vI 1 :: S) h Q := wp_pl rfl rfl rfl
theorem s167_137 : WP 167 0 137 L [vI x] h Q ↔ ((x = 0 ∨ x = 1) ∧ Q (.inl (some (vI x))) h) := wp_iret rfl rfl
/-! RepeatFreeModel.free()Z -/
theorem s168_0 : WP 168 0 0 [vA r] S h Q ↔ WP 168 0 1 [vA r] (vA r :: S) h Q := wp_aload rfl rfl
theorem s168_1 : WP 168 0 1 L S h Q ↔ WP 168 0 2 L (vI 0 :: S) h Q := wp_pl rfl rfl rfl
theorem s168_2 : WP 168 0 2 L (vI x :: vA (some a) :: S) h Q ↔ ((zNC ≤ a ∧ zhas 45 (hk h a) = true) ∧ WP 168 0 5 L S (hput h a 45 (vI x)) Q) := wp_put0 rfl rfl
theorem s168_5 : WP 168 0 5 [vA r] S h Q ↔ WP 168 0 6 [vA r] (vA r :: S) h Q := wp_aload rfl rfl
theorem s168_6 : WP 168 0 6 L (vA (some a) :: S) h Q ↔ ((hk h a).1 = 110 ∧ (zw S ≤ 8 ∧ WP 188 0 0 [vA (some a)] [] h (zret 168 0 6 9 L S Q))) := wp_V1 (c := 110) rfl rfl (fun _ => rfl) rfl rfl (zcan_of rfl rfl) rfl rfl rfl
theorem s168_9 : WP 168 0 9 L [vI x] h Q ↔ ((x = 0 ∨ x = 1) ∧ Q (.inl (some (vI x))) h) := wp_iret rfl rfl
/-! RepeatFreeModel.freeOf([II)I -/
theorem s169_0 : WP 169 0 0 L S h Q ↔ WP 169 0 1 L (vI 0 :: S) h Q := wp_pl rfl rfl rfl
theorem s169_1 : WP 169 0 1 [a0, a1, a2, a3] (vI x :: S) h Q ↔ WP 169 0 2 [a0, a1, a2, vI x] S h Q := wp_istore rfl rfl rfl
theorem s169_2 : WP 169 0 2 [a0, a1, a2, vI x] S h Q ↔ WP 169 0 3 [a0, a1, a2, vI x] (vI x :: S) h Q := wp_iload rfl rfl
theorem s169_3 : WP 169 0 3 [a0, a1, vI x, a3] S h Q ↔ WP 169 0 4 [a0, a1, vI x, a3] (vI x :: S) h Q := wp_iload rfl rfl
theorem s169_4 : WP 169 0 4 L (vI y :: vI x :: S) h Q ↔ zif (x < y) (WP 169 0 7 L S h Q) (WP 169 0 24 L S h Q) := wp_bN zc_lt rfl rfl rfl
theorem s169_7 : WP 169 0 7 [vA r, a1, a2, a3] S h Q ↔ WP 169 0 8 [vA r, a1, a2, a3] (vA r :: S) h Q := wp_aload rfl rfl
theorem s169_8 : WP 169 0 8 [a0, vA r, a2, a3] S h Q ↔ WP 169 0 9 [a0, vA r, a2, a3] (vA r :: S) h Q := wp_aload rfl rfl
theorem s169_9 : WP 169 0 9 [a0, a1, a2, vI x] S h Q ↔ WP 169 0 10 [a0, a1, a2, vI x] (vI x :: S) h Q := wp_iload rfl rfl
theorem s169_10 : WP 169 0 10 L S h Q ↔ WP 169 0 11 L (vI 1 :: S) h Q := wp_pl rfl rfl rfl
theorem s169_11 : WP 169 0 11 L (vI y :: vI x :: S) h Q ↔ WP 169 0 12 L (vI (wr (x + y)) :: S) h Q := wp_pl rfl rfl rfl
theorem s169_12 : WP 169 0 12 L (vI x1 :: vA r0 :: vA (some a) :: S) h Q ↔ ((hk h a).1 = 110 ∧ (zw S ≤ 8 ∧ WP 173 0 0 [vA (some a), vA r0, vI x1, vJ] [] h (zret 169 0 12 15 L S Q))) := wp_V1 (c := 110) rfl rfl (fun _ => rfl) rfl rfl (zcan_of rfl rfl) rfl rfl rfl
theorem s169_15 : WP 169 0 15 L (vI x :: S) h Q ↔ zif (x = 0) (WP 169 0 24 L S h Q) (WP 169 0 18 L S h Q) := wp_bE zc_eq rfl rfl rfl
theorem s169_18 : WP 169 0 18 [a0, a1, a2, vI x] S h Q ↔ WP 169 0 21 [a0, a1, a2, vI (wr (x + 1))] S h Q := wp_iinc rfl rfl rfl
theorem s169_21 : WP 169 0 21 L S h Q ↔ WP 169 0 2 L S h Q := wp_pl rfl rfl rfl
theorem s169_24 : WP 169 0 24 [a0, a1, a2, vI x] S h Q ↔ WP 169 0 25 [a0, a1, a2, vI x] (vI x :: S) h Q := wp_iload rfl rfl
theorem s169_25 : WP 169 0 25 L [vI x] h Q ↔ Q (.inl (some (vI x))) h := wp_iret0 rfl rfl
/-! RepeatFreeModel.freshName(I)V -/
theorem s170_0 : WP 170 0 0 [vA r, a1, a2, a3] S h Q ↔ WP 170 0 1 [vA r, a1, a2, a3] (vA r :: S) h Q := wp_aload rfl rfl
theorem s170_1 : WP 170 0 1 L (vA (some a) :: S) h Q ↔ ((hk h a).1 = 110 ∧ (zw S ≤ 8 ∧ WP 177 0 0 [vA (some a)] [] h (zret 170 0 1 4 L S Q))) := wp_V1 (c := 110) rfl rfl (fun _ => rfl) rfl rfl (zcan_of rfl rfl) rfl rfl rfl
theorem s170_4 : WP 170 0 4 L (vI x :: S) h Q ↔ zif (x = 0) (WP 170 0 8 L S h Q) (WP 170 0 7 L S h Q) := wp_bE zc_eq rfl rfl rfl
theorem s170_7 : WP 170 0 7 L [] h Q ↔ Q (.inl none) h := wp_ret rfl
theorem s170_8 : WP 170 0 8 [vA r, a1, a2, a3] S h Q ↔ WP 170 0 9 [vA r, a1, a2, a3] (vA r :: S) h Q := wp_aload rfl rfl
theorem s170_9 : WP 170 0 9 L (vA (some a) :: S) h Q ↔ ((hk h a).1 = 110 ∧ (zw S ≤ 8 ∧ WP 190 0 0 [vA (some a), vJ] [] h (zret 170 0 9 12 L S Q))) := wp_V1 (c := 110) rfl rfl (fun _ => rfl) rfl rfl (zcan_of rfl rfl) rfl rfl rfl
theorem s170_12 : WP 170 0 12 L (vI x :: S) h Q ↔ zif (x = 0) (WP 170 0 45 L S h Q) (WP 170 0 15 L S h Q) := wp_bE zc_eq rfl rfl rfl
theorem s170_15 : WP 170 0 15 [vA r, a1, a2, a3] S h Q ↔ WP 170 0 16 [vA r, a1, a2, a3] (vA r :: S) h Q := wp_aload rfl rfl
theorem s170_16 : WP 170 0 16 L S h Q ↔ WP 170 0 17 L (vI 0 :: S) h Q := wp_pl rfl rfl rfl
theorem s170_17 : WP 170 0 17 [vA r, a1, a2, a3] S h Q ↔ WP 170 0 18 [vA r, a1, a2, a3] (vA r :: S) h Q := wp_aload rfl rfl
theorem s170_18 : WP 170 0 18 L (vA (some a) :: S) h Q ↔ (zhas 55 (hk h a) = true ∧ WP 170 0 21 L (hm h a 55 :: S) h Q) := wp_if rfl rfl rfl
theorem s170_21 : WP 170 0 21 L S h Q ↔ WP 170 0 22 L (vI 4 :: S) h Q := wp_pl rfl rfl rfl
theorem s170_22 : WP 170 0 22 L (vI x :: vA (some a) :: S) h Q ↔ (((hk h a).1 = 1 ∧ 0 ≤ x ∧ x < ((hk h a).2 : Int)) ∧ WP 170 0 23 L (hm h a x.toNat :: S) h Q) := wp_if rfl rfl rfl
theorem s170_23 : WP 170 0 23 L (vI x1 :: vI x0 :: vA (some a) :: S) h Q ↔ ((hk h a).1 = 110 ∧ (zw S ≤ 8 ∧ WP 219 0 0 [vA (some a), vI x0, vI x1, vJ, vJ, vJ, vJ] [] h (zret 170 0 23 26 L S Q))) := wp_V1 (c := 110) rfl rfl (fun _ => rfl) rfl rfl (zcan_of rfl rfl) rfl rfl rfl
theorem s170_26 : WP 170 0 26 L S h Q ↔ WP 170 0 27 L (vI (-1) :: S) h Q := wp_pl rfl rfl rfl
theorem s170_27 : WP 170 0 27 L (vI y :: vI x :: S) h Q ↔ zif (x = y) (WP 170 0 30 L S h Q) (WP 170 0 45 L S h Q) := wp_bN zc_eq rfl rfl rfl
theorem s170_30 : WP 170 0 30 [vA r, a1, a2, a3] S h Q ↔ WP 170 0 31 [vA r, a1, a2, a3] (vA r :: S) h Q := wp_aload rfl rfl
theorem s170_31 : WP 170 0 31 L S h Q ↔ WP 170 0 32 L (vI 4 :: S) h Q := wp_pl rfl rfl rfl
theorem s170_32 : WP 170 0 32 [vA r, a1, a2, a3] S h Q ↔ WP 170 0 33 [vA r, a1, a2, a3] (vA r :: S) h Q := wp_aload rfl rfl
theorem s170_33 : WP 170 0 33 L (vA (some a) :: S) h Q ↔ (zhas 55 (hk h a) = true ∧ WP 170 0 36 L (hm h a 55 :: S) h Q) := wp_if rfl rfl rfl
theorem s170_36 : WP 170 0 36 L S h Q ↔ WP 170 0 37 L (vI 5 :: S) h Q := wp_pl rfl rfl rfl
theorem s170_37 : WP 170 0 37 L (vI x :: vA (some a) :: S) h Q ↔ (((hk h a).1 = 1 ∧ 0 ≤ x ∧ x < ((hk h a).2 : Int)) ∧ WP 170 0 38 L (hm h a x.toNat :: S) h Q) := wp_if rfl rfl rfl
theorem s170_38 : WP 170 0 38 L (vI x1 :: vI x0 :: vA (some a) :: S) h Q ↔ ((hk h a).1 = 110 ∧ (zw S ≤ 8 ∧ WP 219 0 0 [vA (some a), vI x0, vI x1, vJ, vJ, vJ, vJ] [] h (zret 170 0 38 41 L S Q))) := wp_V1 (c := 110) rfl rfl (fun _ => rfl) rfl rfl (zcan_of rfl rfl) rfl rfl rfl
theorem s170_41 : WP 170 0 41 L S h Q ↔ WP 170 0 42 L (vI (-1) :: S) h Q := wp_pl rfl rfl rfl
theorem s170_42 : WP 170 0 42 L (vI y :: vI x :: S) h Q ↔ zif (x = y) (WP 170 0 50 L S h Q) (WP 170 0 45 L S h Q) := wp_bE zc_eq rfl rfl rfl
theorem s170_45 : WP 170 0 45 [vA r, a1, a2, a3] S h Q ↔ WP 170 0 46 [vA r, a1, a2, a3] (vA r :: S) h Q := wp_aload rfl rfl
theorem s170_46 : WP 170 0 46 L (vA (some a) :: S) h Q ↔ ((hk h a).1 = 110 ∧ (zw S ≤ 8 ∧ WP 161 0 0 [vA (some a)] [] h (zret 170 0 46 49 L S Q))) := wp_V1 (c := 110) rfl rfl (fun _ => rfl) rfl rfl (zcan_of rfl rfl) rfl rfl rfl
theorem s170_49 : WP 170 0 49 L [] h Q ↔ Q (.inl none) h := wp_ret rfl
theorem s170_50 : WP 170 0 50 [vA r, a1, a2, a3] S h Q ↔ WP 170 0 51 [vA r, a1, a2, a3] (vA r :: S) h Q := wp_aload rfl rfl
theorem s170_51 : WP 170 0 51 L (vA (some a) :: S) h Q ↔ ((hk h a).1 = 110 ∧ (zw S ≤ 8 ∧ WP 254 0 0 [vA (some a), vJ] [] h (zret 170 0 51 54 L S Q))) := wp_V1 (c := 110) rfl rfl (fun _ => rfl) rfl rfl (zcan_of rfl rfl) rfl rfl rfl
theorem s170_54 : WP 170 0 54 [a0, a1, a2, a3] (vI x :: S) h Q ↔ WP 170 0 55 [a0, a1, vI x, a3] S h Q := wp_istore rfl rfl rfl
theorem s170_55 : WP 170 0 55 L S h Q ↔ WP 170 0 56 L (vI 0 :: S) h Q := wp_pl rfl rfl rfl
theorem s170_56 : WP 170 0 56 [a0, a1, a2, a3] (vI x :: S) h Q ↔ WP 170 0 57 [a0, a1, a2, vI x] S h Q := wp_istore rfl rfl rfl
theorem s170_57 : WP 170 0 57 [a0, a1, a2, vI x] S h Q ↔ WP 170 0 58 [a0, a1, a2, vI x] (vI x :: S) h Q := wp_iload rfl rfl
theorem s170_58 : WP 170 0 58 L S h Q ↔ WP 170 0 60 L (vI 6 :: S) h Q := wp_pl rfl rfl rfl
theorem s170_60 : WP 170 0 60 L (vI y :: vI x :: S) h Q ↔ zif (x < y) (WP 170 0 63 L S h Q) (WP 170 0 103 L S h Q) := wp_bN zc_lt rfl rfl rfl
theorem s170_63 : WP 170 0 63 [vA r, a1, a2, a3] S h Q ↔ WP 170 0 64 [vA r, a1, a2, a3] (vA r :: S) h Q := wp_aload rfl rfl
theorem s170_64 : WP 170 0 64 L (vA (some a) :: S) h Q ↔ (zhas 55 (hk h a) = true ∧ WP 170 0 67 L (hm h a 55 :: S) h Q) := wp_if rfl rfl rfl
theorem s170_67 : WP 170 0 67 L S h Q ↔ WP 170 0 69 L (vI 6 :: S) h Q := wp_pl rfl rfl rfl
theorem s170_69 : WP 170 0 69 L S h Q ↔ WP 170 0 71 L (vI 6 :: S) h Q := wp_pl rfl rfl rfl
theorem s170_71 : WP 170 0 71 [a0, vI x, a2, a3] S h Q ↔ WP 170 0 72 [a0, vI x, a2, a3] (vI x :: S) h Q := wp_iload rfl rfl
theorem s170_72 : WP 170 0 72 L (vI y :: vI x :: S) h Q ↔ WP 170 0 73 L (vI (wr (x * y)) :: S) h Q := wp_pl rfl rfl rfl
theorem s170_73 : WP 170 0 73 L (vI y :: vI x :: S) h Q ↔ WP 170 0 74 L (vI (wr (x + y)) :: S) h Q := wp_pl rfl rfl rfl
theorem s170_74 : WP 170 0 74 [a0, a1, a2, vI x] S h Q ↔ WP 170 0 75 [a0, a1, a2, vI x] (vI x :: S) h Q := wp_iload rfl rfl
theorem s170_75 : WP 170 0 75 L (vI y :: vI x :: S) h Q ↔ WP 170 0 76 L (vI (wr (x + y)) :: S) h Q := wp_pl rfl rfl rfl
theorem s170_76 : WP 170 0 76 [a0, a1, a2, vI x] S h Q ↔ WP 170 0 77 [a0, a1, a2, vI x] (vI x :: S) h Q := wp_iload rfl rfl
theorem s170_77 : WP 170 0 77 [a0, a1, vI x, a3] S h Q ↔ WP 170 0 78 [a0, a1, vI x, a3] (vI x :: S) h Q := wp_iload rfl rfl
theorem s170_78 : WP 170 0 78 L (vI y :: vI x :: S) h Q ↔ zif (x < y) (WP 170 0 81 L S h Q) (WP 170 0 95 L S h Q) := wp_bN zc_lt rfl rfl rfl
theorem s170_81 : WP 170 0 81 [vA r, a1, a2, a3] S h Q ↔ WP 170 0 82 [vA r, a1, a2, a3] (vA r :: S) h Q := wp_aload rfl rfl
theorem s170_82 : WP 170 0 82 L (vA (some a) :: S) h Q ↔ (zhas 46 (hk h a) = true ∧ WP 170 0 85 L (hm h a 46 :: S) h Q) := wp_if rfl rfl rfl
theorem s170_85 : WP 170 0 85 [vA r, a1, a2, a3] S h Q ↔ WP 170 0 86 [vA r, a1, a2, a3] (vA r :: S) h Q := wp_aload rfl rfl
theorem s170_86 : WP 170 0 86 L (vA (some a) :: S) h Q ↔ (zhas 49 (hk h a) = true ∧ WP 170 0 89 L (hm h a 49 :: S) h Q) := wp_if rfl rfl rfl
theorem s170_89 : WP 170 0 89 [a0, a1, a2, vI x] S h Q ↔ WP 170 0 90 [a0, a1, a2, vI x] (vI x :: S) h Q := wp_iload rfl rfl
theorem s170_90 : WP 170 0 90 L (vI y :: vI x :: S) h Q ↔ WP 170 0 91 L (vI (wr (x + y)) :: S) h Q := wp_pl rfl rfl rfl
theorem s170_91 : WP 170 0 91 L (vI x :: vA (some a) :: S) h Q ↔ ((((hk h a).1 = 2 ∨ (hk h a).1 = 3) ∧ 0 ≤ x ∧ x < ((hk h a).2 : Int)) ∧ WP 170 0 92 L (hm h a x.toNat :: S) h Q) := wp_if rfl rfl rfl
theorem s170_92 : WP 170 0 92 L S h Q ↔ WP 170 0 96 L S h Q := wp_pl rfl rfl rfl
theorem s170_95 : WP 170 0 95 L S h Q ↔ WP 170 0 96 L (vI 0 :: S) h Q := wp_pl rfl rfl rfl
theorem s170_96 : WP 170 0 96 L (vI y :: vI x :: vA (some a) :: S) h Q ↔ (((hk h a).1 = 1 ∧ (0 ≤ x ∧ x < ((hk h a).2 : Int)) ∧ zNC ≤ a) ∧ WP 170 0 97 L S (hput h a x.toNat (vI y)) Q) := wp_if rfl rfl rfl
theorem s170_97 : WP 170 0 97 [a0, a1, a2, vI x] S h Q ↔ WP 170 0 100 [a0, a1, a2, vI (wr (x + 1))] S h Q := wp_iinc rfl rfl rfl
theorem s170_100 : WP 170 0 100 L S h Q ↔ WP 170 0 57 L S h Q := wp_pl rfl rfl rfl
theorem s170_103 : WP 170 0 103 [vA r, a1, a2, a3] S h Q ↔ WP 170 0 104 [vA r, a1, a2, a3] (vA r :: S) h Q := wp_aload rfl rfl
theorem s170_104 : WP 170 0 104 L (vA r :: S) h Q ↔ WP 170 0 105 L (vA r :: vA r :: S) h Q := wp_pl rfl rfl rfl
theorem s170_104i : WP 170 0 104 L (vI x :: S) h Q ↔ WP 170 0 105 L (vI x :: vI x :: S) h Q := wp_pl rfl rfl rfl
theorem s170_105 : WP 170 0 105 L (vA (some a) :: S) h Q ↔ (zhas 49 (hk h a) = true ∧ WP 170 0 108 L (hm h a 49 :: S) h Q) := wp_if rfl rfl rfl
theorem s170_108 : WP 170 0 108 [a0, a1, vI x, a3] S h Q ↔ WP 170 0 109 [a0, a1, vI x, a3] (vI x :: S) h Q := wp_iload rfl rfl
theorem s170_109 : WP 170 0 109 L (vI y :: vI x :: S) h Q ↔ WP 170 0 110 L (vI (wr (x + y)) :: S) h Q := wp_pl rfl rfl rfl
theorem s170_110 : WP 170 0 110 L (vI x :: vA (some a) :: S) h Q ↔ ((zNC ≤ a ∧ zhas 49 (hk h a) = true) ∧ WP 170 0 113 L S (hput h a 49 (vI x)) Q) := wp_put0 rfl rfl
theorem s170_113 : WP 170 0 113 L [] h Q ↔ Q (.inl none) h := wp_ret rfl
/-! RepeatFreeModel.further()I -/
theorem s171_0 : WP 171 0 0 [vA r, a1, a2, a3] S h Q ↔ WP 171 0 1 [vA r, a1, a2, a3] (vA r :: S) h Q := wp_aload rfl rfl
theorem s171_1 : WP 171 0 1 L S h Q ↔ WP 171 0 2 L (vI 0 :: S) h Q := wp_pl rfl rfl rfl
theorem s171_2 : WP 171 0 2 L (vI x :: vA (some a) :: S) h Q ↔ ((zNC ≤ a ∧ zhas 45 (hk h a) = true) ∧ WP 171 0 5 L S (hput h a 45 (vI x)) Q) := wp_put0 rfl rfl
theorem s171_5 : WP 171 0 5 [vA r, a1, a2, a3] S h Q ↔ WP 171 0 6 [vA r, a1, a2, a3] (vA r :: S) h Q := wp_aload rfl rfl
theorem s171_6 : WP 171 0 6 L (vA (some a) :: S) h Q ↔ ((hk h a).1 = 110 ∧ (zw S ≤ 8 ∧ WP 188 0 0 [vA (some a)] [] h (zret 171 0 6 9 L S Q))) := wp_V1 (c := 110) rfl rfl (fun _ => rfl) rfl rfl (zcan_of rfl rfl) rfl rfl rfl
theorem s171_9 : WP 171 0 9 L (vI x :: S) h Q ↔ zif (x = 0) (WP 171 0 12 L S h Q) (WP 171 0 14 L S h Q) := wp_bN zc_eq rfl rfl rfl
theorem s171_12 : WP 171 0 12 L S h Q ↔ WP 171 0 13 L (vI 0 :: S) h Q := wp_pl rfl rfl rfl
theorem s171_13 : WP 171 0 13 L [vI x] h Q ↔ Q (.inl (some (vI x))) h := wp_iret0 rfl rfl
theorem s171_14 : WP 171 0 14 L S h Q ↔ WP 171 0 16 L (vI 20 :: S) h Q := wp_pl rfl rfl rfl
theorem s171_16 : WP 171 0 16 L S h Q ↔ WP 171 0 18 L (vI 64 :: S) h Q := wp_pl rfl rfl rfl
theorem s171_18 : WP 171 0 18 [vA r, a1, a2, a3] S h Q ↔ WP 171 0 19 [vA r, a1, a2, a3] (vA r :: S) h Q := wp_aload rfl rfl
theorem s171_19 : WP 171 0 19 L (vA (some a) :: S) h Q ↔ (zhas 59 (hk h a) = true ∧ WP 171 0 22 L (hm h a 59 :: S) h Q) := wp_if rfl rfl rfl
theorem s171_22 : WP 171 0 22 L (vI y :: vI x :: S) h Q ↔ WP 171 0 23 L (vI (wr (x - y)) :: S) h Q := wp_pl rfl rfl rfl
theorem s171_23 : WP 171 0 23 L (vI x1 :: vI x0 :: S) h Q ↔ (zw S ≤ 8 ∧ WP 384 0 0 [vI x0, vI x1] [] h (zret 171 0 23 26 L S Q)) := wp_S rfl rfl (zcan_of rfl rfl) rfl rfl rfl
theorem s171_26 : WP 171 0 26 [a0, a1, a2, a3] (vI x :: S) h Q ↔ WP 171 0 27 [a0, vI x, a2, a3] S h Q := wp_istore rfl rfl rfl
theorem s171_27 : WP 171 0 27 L S h Q ↔ WP 171 0 28 L (vI 1 :: S) h Q := wp_pl rfl rfl rfl
theorem s171_28 : WP 171 0 28 [a0, a1, a2, a3] (vI x :: S) h Q ↔ WP 171 0 29 [a0, a1, vI x, a3] S h Q := wp_istore rfl rfl rfl
theorem s171_29 : WP 171 0 29 [a0, a1, vI x, a3] S h Q ↔ WP 171 0 30 [a0, a1, vI x, a3] (vI x :: S) h Q := wp_iload rfl rfl
theorem s171_30 : WP 171 0 30 [a0, vI x, a2, a3] S h Q ↔ WP 171 0 31 [a0, vI x, a2, a3] (vI x :: S) h Q := wp_iload rfl rfl
theorem s171_31 : WP 171 0 31 L (vI y :: vI x :: S) h Q ↔ zif (y < x) (WP 171 0 85 L S h Q) (WP 171 0 34 L S h Q) := wp_bE zc_gt rfl rfl rfl
theorem s171_34 : WP 171 0 34 [vA r, a1, a2, a3] S h Q ↔ WP 171 0 35 [vA r, a1, a2, a3] (vA r :: S) h Q := wp_aload rfl rfl
theorem s171_35 : WP 171 0 35 L (vA (some a) :: S) h Q ↔ ((hk h a).1 = 110 ∧ (zw S ≤ 8 ∧ WP 243 0 0 [vA (some a)] [] h (zret 171 0 35 38 L S Q))) := wp_V1 (c := 110) rfl rfl (fun _ => rfl) rfl rfl (zcan_of rfl rfl) rfl rfl rfl
theorem s171_38 : WP 171 0 38 [vA r, a1, a2, a3] S h Q ↔ WP 171 0 39 [vA r, a1, a2, a3] (vA r :: S) h Q := wp_aload rfl rfl
theorem s171_39 : WP 171 0 39 L (vA (some a) :: S) h Q ↔ ((hk h a).1 = 110 ∧ (zw S ≤ 8 ∧ WP 245 0 0 [vA (some a), vJ] [] h (zret 171 0 39 42 L S Q))) := wp_V1 (c := 110) rfl rfl (fun _ => rfl) rfl rfl (zcan_of rfl rfl) rfl rfl rfl
theorem s171_42 : WP 171 0 42 [vA r, a1, a2, a3] S h Q ↔ WP 171 0 43 [vA r, a1, a2, a3] (vA r :: S) h Q := wp_aload rfl rfl
theorem s171_43 : WP 171 0 43 [vA r, a1, a2, a3] S h Q ↔ WP 171 0 44 [vA r, a1, a2, a3] (vA r :: S) h Q := wp_aload rfl rfl
theorem s171_44 : WP 171 0 44 L (vA (some a) :: S) h Q ↔ (zhas 59 (hk h a) = true ∧ WP 171 0 47 L (hm h a 59 :: S) h Q) := wp_if rfl rfl rfl
theorem s171_47 : WP 171 0 47 [vA r, a1, a2, a3] S h Q ↔ WP 171 0 48 [vA r, a1, a2, a3] (vA r :: S) h Q := wp_aload rfl rfl
theorem s171_48 : WP 171 0 48 L (vA (some a) :: S) h Q ↔ (zhas 59 (hk h a) = true ∧ WP 171 0 51 L (hm h a 59 :: S) h Q) := wp_if rfl rfl rfl
theorem s171_51 : WP 171 0 51 [a0, a1, vI x, a3] S h Q ↔ WP 171 0 52 [a0, a1, vI x, a3] (vI x :: S) h Q := wp_iload rfl rfl
theorem s171_52 : WP 171 0 52 L (vI y :: vI x :: S) h Q ↔ WP 171 0 53 L (vI (wr (x + y)) :: S) h Q := wp_pl rfl rfl rfl
theorem s171_53 : WP 171 0 53 L S h Q ↔ WP 171 0 54 L (vI 0 :: S) h Q := wp_pl rfl rfl rfl
theorem s171_54 : WP 171 0 54 L (vI x2 :: vI x1 :: vI x0 :: vA (some a) :: S) h Q ↔ ((hk h a).1 = 110 ∧ (zw S ≤ 8 ∧ WP 241 44 0 [vA (some a), vI x0, vI x1, vI x2, vJ] [] h (zret 171 0 54 57 L S Q))) := wp_V1 (c := 110) rfl rfl (fun _ => rfl) rfl rfl (zcan_of rfl rfl) rfl rfl rfl
theorem s171_57 : WP 171 0 57 [a0, a1, a2, a3] (vI x :: S) h Q ↔ WP 171 0 58 [a0, a1, a2, vI x] S h Q := wp_istore rfl rfl rfl
theorem s171_58 : WP 171 0 58 [vA r, a1, a2, a3] S h Q ↔ WP 171 0 59 [vA r, a1, a2, a3] (vA r :: S) h Q := wp_aload rfl rfl
theorem s171_59 : WP 171 0 59 L (vA (some a) :: S) h Q ↔ (zhas 67 (hk h a) = true ∧ WP 171 0 62 L (hm h a 67 :: S) h Q) := wp_if rfl rfl rfl
theorem s171_62 : WP 171 0 62 L (vI x :: S) h Q ↔ zif (x = 0) (WP 171 0 68 L S h Q) (WP 171 0 65 L S h Q) := wp_bE zc_eq rfl rfl rfl
theorem s171_65 : WP 171 0 65 L S h Q ↔ WP 171 0 67 L (vI (-2) :: S) h Q := wp_pl rfl rfl rfl
theorem s171_67 : WP 171 0 67 L [vI x] h Q ↔ Q (.inl (some (vI x))) h := wp_iret0 rfl rfl
theorem s171_68 : WP 171 0 68 [vA r, a1, a2, a3] S h Q ↔ WP 171 0 69 [vA r, a1, a2, a3] (vA r :: S) h Q := wp_aload rfl rfl
theorem s171_69 : WP 171 0 69 L (vA (some a) :: S) h Q ↔ (zhas 70 (hk h a) = true ∧ WP 171 0 72 L (hm h a 70 :: S) h Q) := wp_if rfl rfl rfl
theorem s171_72 : WP 171 0 72 L (vI x :: S) h Q ↔ zif (x = 0) (WP 171 0 75 L S h Q) (WP 171 0 79 L S h Q) := wp_bN zc_eq rfl rfl rfl
theorem s171_75 : WP 171 0 75 [a0, a1, vI x, a3] S h Q ↔ WP 171 0 76 [a0, a1, vI x, a3] (vI x :: S) h Q := wp_iload rfl rfl
theorem s171_76 : WP 171 0 76 L S h Q ↔ WP 171 0 77 L (vI 1 :: S) h Q := wp_pl rfl rfl rfl
theorem s171_77 : WP 171 0 77 L (vI y :: vI x :: S) h Q ↔ WP 171 0 78 L (vI (wr (x - y)) :: S) h Q := wp_pl rfl rfl rfl
theorem s171_78 : WP 171 0 78 L [vI x] h Q ↔ Q (.inl (some (vI x))) h := wp_iret0 rfl rfl
theorem s171_79 : WP 171 0 79 [a0, a1, vI x, a3] S h Q ↔ WP 171 0 82 [a0, a1, vI (wr (x + 1)), a3] S h Q := wp_iinc rfl rfl rfl
theorem s171_82 : WP 171 0 82 L S h Q ↔ WP 171 0 29 L S h Q := wp_pl rfl rfl rfl
theorem s171_85 : WP 171 0 85 [a0, vI x, a2, a3] S h Q ↔ WP 171 0 86 [a0, vI x, a2, a3] (vI x :: S) h Q := wp_iload rfl rfl
theorem s171_86 : WP 171 0 86 L [vI x] h Q ↔ Q (.inl (some (vI x))) h := wp_iret0 rfl rfl
/-! RepeatFreeModel.goes()I -/
theorem s172_0 : WP 172 0 0 [vA r, a1, a2] S h Q ↔ WP 172 0 1 [vA r, a1, a2] (vA r :: S) h Q := wp_aload rfl rfl
theorem s172_1 : WP 172 0 1 L S h Q ↔ WP 172 0 2 L (vI 0 :: S) h Q := wp_pl rfl rfl rfl
theorem s172_2 : WP 172 0 2 L (vI x :: vA (some a) :: S) h Q ↔ ((zNC ≤ a ∧ zhas 45 (hk h a) = true) ∧ WP 172 0 5 L S (hput h a 45 (vI x)) Q) := wp_put0 rfl rfl
theorem s172_5 : WP 172 0 5 [vA r, a1, a2] S h Q ↔ WP 172 0 6 [vA r, a1, a2] (vA r :: S) h Q := wp_aload rfl rfl
theorem s172_6 : WP 172 0 6 L (vA (some a) :: S) h Q ↔ (zhas 59 (hk h a) = true ∧ WP 172 0 9 L (hm h a 59 :: S) h Q) := wp_if rfl rfl rfl
theorem s172_9 : WP 172 0 9 L S h Q ↔ WP 172 0 11 L (vI 64 :: S) h Q := wp_pl rfl rfl rfl
theorem s172_11 : WP 172 0 11 L (vI y :: vI x :: S) h Q ↔ zif (x = y) (WP 172 0 21 L S h Q) (WP 172 0 14 L S h Q) := wp_bE zc_eq rfl rfl rfl
theorem s172_14 : WP 172 0 14 [vA r, a1, a2] S h Q ↔ WP 172 0 15 [vA r, a1, a2] (vA r :: S) h Q := wp_aload rfl rfl
theorem s172_15 : WP 172 0 15 L (vA (some a) :: S) h Q ↔ ((hk h a).1 = 110 ∧ (zw S ≤ 8 ∧ WP 188 0 0 [vA (some a)] [] h (zret 172 0 15 18 L S Q))) := wp_V1 (c := 110) rfl rfl (fun _ => rfl) rfl rfl (zcan_of rfl rfl) rfl rfl rfl
theorem s172_18 : WP 172 0 18 L (vI x :: S) h Q ↔ zif (x = 0) (WP 172 0 21 L S h Q) (WP 172 0 23 L S h Q) := wp_bN zc_eq rfl rfl rfl
theorem s172_21 : WP 172 0 21 L S h Q ↔ WP 172 0 22 L (vI 0 :: S) h Q := wp_pl rfl rfl rfl
theorem s172_22 : WP 172 0 22 L [vI x] h Q ↔ Q (.inl (some (vI x))) h := wp_iret0 rfl rfl
theorem s172_23 : WP 172 0 23 [vA r, a1, a2] S h Q ↔ WP 172 0 24 [vA r, a1, a2] (vA r :: S) h Q := wp_aload rfl rfl
theorem s172_24 : WP 172 0 24 [vA r, a1, a2] S h Q ↔ WP 172 0 25 [vA r, a1, a2] (vA r :: S) h Q := wp_aload rfl rfl
theorem s172_25 : WP 172 0 25 L (vA (some a) :: S) h Q ↔ (zhas 59 (hk h a) = true ∧ WP 172 0 28 L (hm h a 59 :: S) h Q) := wp_if rfl rfl rfl
theorem s172_28 : WP 172 0 28 L (vI x0 :: vA (some a) :: S) h Q ↔ ((hk h a).1 = 110 ∧ (zw S ≤ 8 ∧ WP 198 0 0 [vA (some a), vI x0, vJ] [] h (zret 172 0 28 31 L S Q))) := wp_V1 (c := 110) rfl rfl (fun _ => rfl) rfl rfl (zcan_of rfl rfl) rfl rfl rfl
theorem s172_31 : WP 172 0 31 L S h Q ↔ WP 172 0 32 L (vI 0 :: S) h Q := wp_pl rfl rfl rfl
theorem s172_32 : WP 172 0 32 [a0, a1, a2] (vI x :: S) h Q ↔ WP 172 0 33 [a0, vI x, a2] S h Q := wp_istore rfl rfl rfl
theorem s172_33 : WP 172 0 33 L S h Q ↔ WP 172 0 34 L (vI 0 :: S) h Q := wp_pl rfl rfl rfl
theorem s172_34 : WP 172 0 34 [a0, a1, a2] (vI x :: S) h Q ↔ WP 172 0 35 [a0, a1, vI x] S h Q := wp_istore rfl rfl rfl
theorem s172_35 : WP 172 0 35 [a0, a1, vI x] S h Q ↔ WP 172 0 36 [a0, a1, vI x] (vI x :: S) h Q := wp_iload rfl rfl
theorem s172_36 : WP 172 0 36 [vA r, a1, a2] S h Q ↔ WP 172 0 37 [vA r, a1, a2] (vA r :: S) h Q := wp_aload rfl rfl
theorem s172_37 : WP 172 0 37 L (vA (some a) :: S) h Q ↔ (zhas 54 (hk h a) = true ∧ WP 172 0 40 L (hm h a 54 :: S) h Q) := wp_if rfl rfl rfl
theorem s172_40 : WP 172 0 40 L S h Q ↔ WP 172 0 41 L (vI 0 :: S) h Q := wp_pl rfl rfl rfl
theorem s172_41 : WP 172 0 41 L (vI x :: vA (some a) :: S) h Q ↔ (((hk h a).1 = 1 ∧ 0 ≤ x ∧ x < ((hk h a).2 : Int)) ∧ WP 172 0 42 L (hm h a x.toNat :: S) h Q) := wp_if rfl rfl rfl
theorem s172_42 : WP 172 0 42 L (vI y :: vI x :: S) h Q ↔ zif (x < y) (WP 172 0 45 L S h Q) (WP 172 0 88 L S h Q) := wp_bN zc_lt rfl rfl rfl
theorem s172_45 : WP 172 0 45 [vA r, a1, a2] S h Q ↔ WP 172 0 46 [vA r, a1, a2] (vA r :: S) h Q := wp_aload rfl rfl
theorem s172_46 : WP 172 0 46 L (vA (some a) :: S) h Q ↔ (zhas 58 (hk h a) = true ∧ WP 172 0 49 L (hm h a 58 :: S) h Q) := wp_if rfl rfl rfl
theorem s172_49 : WP 172 0 49 [vA r, a1, a2] S h Q ↔ WP 172 0 50 [vA r, a1, a2] (vA r :: S) h Q := wp_aload rfl rfl
theorem s172_50 : WP 172 0 50 L (vA (some a) :: S) h Q ↔ (zhas 59 (hk h a) = true ∧ WP 172 0 53 L (hm h a 59 :: S) h Q) := wp_if rfl rfl rfl
theorem s172_53 : WP 172 0 53 [a0, a1, vI x] S h Q ↔ WP 172 0 54 [a0, a1, vI x] (vI x :: S) h Q := wp_iload rfl rfl
theorem s172_54 : WP 172 0 54 L (vI y :: vI x :: vA (some a) :: S) h Q ↔ (((hk h a).1 = 1 ∧ (0 ≤ x ∧ x < ((hk h a).2 : Int)) ∧ zNC ≤ a) ∧ WP 172 0 55 L S (hput h a x.toNat (vI y)) Q) := wp_if rfl rfl rfl
theorem s172_55 : WP 172 0 55 [a0, vI x, a2] S h Q ↔ WP 172 0 56 [a0, vI x, a2] (vI x :: S) h Q := wp_iload rfl rfl
theorem s172_56 : WP 172 0 56 [vA r, a1, a2] S h Q ↔ WP 172 0 57 [vA r, a1, a2] (vA r :: S) h Q := wp_aload rfl rfl
theorem s172_57 : WP 172 0 57 [vA r, a1, a2] S h Q ↔ WP 172 0 58 [vA r, a1, a2] (vA r :: S) h Q := wp_aload rfl rfl
theorem s172_58 : WP 172 0 58 L (vA (some a) :: S) h Q ↔ (zhas 58 (hk h a) = true ∧ WP 172 0 61 L (hm h a 58 :: S) h Q) := wp_if rfl rfl rfl
theorem s172_61 : WP 172 0 61 [vA r, a1, a2] S h Q ↔ WP 172 0 62 [vA r, a1, a2] (vA r :: S) h Q := wp_aload rfl rfl
theorem s172_62 : WP 172 0 62 L (vA (some a) :: S) h Q ↔ (zhas 59 (hk h a) = true ∧ WP 172 0 65 L (hm h a 59 :: S) h Q) := wp_if rfl rfl rfl
theorem s172_65 : WP 172 0 65 L S h Q ↔ WP 172 0 66 L (vI 1 :: S) h Q := wp_pl rfl rfl rfl
theorem s172_66 : WP 172 0 66 L (vI y :: vI x :: S) h Q ↔ WP 172 0 67 L (vI (wr (x + y)) :: S) h Q := wp_pl rfl rfl rfl
theorem s172_67 : WP 172 0 67 L (vI x1 :: vA r0 :: vA (some a) :: S) h Q ↔ ((hk h a).1 = 110 ∧ (zw S ≤ 8 ∧ WP 173 0 0 [vA (some a), vA r0, vI x1, vJ] [] h (zret 172 0 67 70 L S Q))) := wp_V1 (c := 110) rfl rfl (fun _ => rfl) rfl rfl (zcan_of rfl rfl) rfl rfl rfl
theorem s172_70 : WP 172 0 70 L (vI x :: S) h Q ↔ zif (x = 0) (WP 172 0 79 L S h Q) (WP 172 0 73 L S h Q) := wp_bE zc_eq rfl rfl rfl
theorem s172_73 : WP 172 0 73 L S h Q ↔ WP 172 0 74 L (vI 1 :: S) h Q := wp_pl rfl rfl rfl
theorem s172_74 : WP 172 0 74 [a0, a1, vI x] S h Q ↔ WP 172 0 75 [a0, a1, vI x] (vI x :: S) h Q := wp_iload rfl rfl
theorem s172_75 : WP 172 0 75 L (vI y :: vI x :: S) h Q ↔ WP 172 0 76 L (vI (zshl x y) :: S) h Q := wp_pl rfl rfl rfl
theorem s172_76 : WP 172 0 76 L S h Q ↔ WP 172 0 80 L S h Q := wp_pl rfl rfl rfl
theorem s172_79 : WP 172 0 79 L S h Q ↔ WP 172 0 80 L (vI 0 :: S) h Q := wp_pl rfl rfl rfl
theorem s172_80 : WP 172 0 80 L (vI y :: vI x :: S) h Q ↔ WP 172 0 81 L (vI (zor x y) :: S) h Q := wp_pl rfl rfl rfl
theorem s172_81 : WP 172 0 81 [a0, a1, a2] (vI x :: S) h Q ↔ WP 172 0 82 [a0, vI x, a2] S h Q := wp_istore rfl rfl rfl
theorem s172_82 : WP 172 0 82 [a0, a1, vI x] S h Q ↔ WP 172 0 85 [a0, a1, vI (wr (x + 1))] S h Q := wp_iinc rfl rfl rfl
theorem s172_85 : WP 172 0 85 L S h Q ↔ WP 172 0 35 L S h Q := wp_pl rfl rfl rfl
theorem s172_88 : WP 172 0 88 [a0, vI x, a2] S h Q ↔ WP 172 0 89 [a0, vI x, a2] (vI x :: S) h Q := wp_iload rfl rfl
theorem s172_89 : WP 172 0 89 L [vI x] h Q ↔ Q (.inl (some (vI x))) h := wp_iret0 rfl rfl
/-! RepeatFreeModel.goesOn([II)Z -/
theorem s173_0 : WP 173 0 0 [vA r, a1, a2, a3] S h Q ↔ WP 173 0 1 [vA r, a1, a2, a3] (vA r :: S) h Q := wp_aload rfl rfl
theorem s173_1 : WP 173 0 1 [a0, vA r, a2, a3] S h Q ↔ WP 173 0 2 [a0, vA r, a2, a3] (vA r :: S) h Q := wp_aload rfl rfl
theorem s173_2 : WP 173 0 2 [a0, a1, vI x, a3] S h Q ↔ WP 173 0 3 [a0, a1, vI x, a3] (vI x :: S) h Q := wp_iload rfl rfl
theorem s173_3 : WP 173 0 3 L (vI x1 :: vA r0 :: vA (some a) :: S) h Q ↔ ((hk h a).1 = 110 ∧ (zw S ≤ 8 ∧ WP 191 0 0 [vA (some a), vA r0, vI x1, vJ, vJ] [] h (zret 173 0 3 6 L S Q))) := wp_V1 (c := 110) rfl rfl (fun _ => rfl) rfl rfl (zcan_of rfl rfl) rfl rfl rfl
theorem s173_6 : WP 173 0 6 L (vI x :: S) h Q ↔ zif (x = 0) (WP 173 0 11 L S h Q) (WP 173 0 9 L S h Q) := wp_bE zc_eq rfl rfl rfl
theorem s173_9 : WP 173 0 9 L S h Q ↔ WP 173 0 10 L (vI 0 :: S) h Q := wp_pl rfl rfl rfl
theorem s173_10 : WP 173 0 10 L [vI x] h Q ↔ ((x = 0 ∨ x = 1) ∧ Q (.inl (some (vI x))) h) := wp_iret rfl rfl
theorem s173_11 : WP 173 0 11 L S h Q ↔ WP 173 0 12 L (vI 0 :: S) h Q := wp_pl rfl rfl rfl
theorem s173_12 : WP 173 0 12 [a0, a1, a2, a3] (vI x :: S) h Q ↔ WP 173 0 13 [a0, a1, a2, vI x] S h Q := wp_istore rfl rfl rfl
theorem s173_13 : WP 173 0 13 [a0, a1, a2, vI x] S h Q ↔ WP 173 0 14 [a0, a1, a2, vI x] (vI x :: S) h Q := wp_iload rfl rfl
theorem s173_14 : WP 173 0 14 [vA r, a1, a2, a3] S h Q ↔ WP 173 0 15 [vA r, a1, a2, a3] (vA r :: S) h Q := wp_aload rfl rfl
theorem s173_15 : WP 173 0 15 L (vA (some a) :: S) h Q ↔ (zhas 54 (hk h a) = true ∧ WP 173 0 18 L (hm h a 54 :: S) h Q) := wp_if rfl rfl rfl
theorem s173_18 : WP 173 0 18 L S h Q ↔ WP 173 0 19 L (vI 5 :: S) h Q := wp_pl rfl rfl rfl
theorem s173_19 : WP 173 0 19 L (vI x :: vA (some a) :: S) h Q ↔ (((hk h a).1 = 1 ∧ 0 ≤ x ∧ x < ((hk h a).2 : Int)) ∧ WP 173 0 20 L (hm h a x.toNat :: S) h Q) := wp_if rfl rfl rfl
theorem s173_20 : WP 173 0 20 L (vI y :: vI x :: S) h Q ↔ zif (x < y) (WP 173 0 23 L S h Q) (WP 173 0 55 L S h Q) := wp_bN zc_lt rfl rfl rfl
theorem s173_23 : WP 173 0 23 [vA r, a1, a2, a3] S h Q ↔ WP 173 0 24 [vA r, a1, a2, a3] (vA r :: S) h Q := wp_aload rfl rfl
theorem s173_24 : WP 173 0 24 L (vA (some a) :: S) h Q ↔ (zhas 54 (hk h a) = true ∧ WP 173 0 27 L (hm h a 54 :: S) h Q) := wp_if rfl rfl rfl
theorem s173_27 : WP 173 0 27 L S h Q ↔ WP 173 0 30 L (vI 194 :: S) h Q := wp_pl rfl rfl rfl
theorem s173_30 : WP 173 0 30 [a0, a1, a2, vI x] S h Q ↔ WP 173 0 31 [a0, a1, a2, vI x] (vI x :: S) h Q := wp_iload rfl rfl
theorem s173_31 : WP 173 0 31 L (vI y :: vI x :: S) h Q ↔ WP 173 0 32 L (vI (wr (x + y)) :: S) h Q := wp_pl rfl rfl rfl
theorem s173_32 : WP 173 0 32 L (vI x :: vA (some a) :: S) h Q ↔ (((hk h a).1 = 1 ∧ 0 ≤ x ∧ x < ((hk h a).2 : Int)) ∧ WP 173 0 33 L (hm h a x.toNat :: S) h Q) := wp_if rfl rfl rfl
theorem s173_33 : WP 173 0 33 L S h Q ↔ WP 173 0 34 L (vI 1 :: S) h Q := wp_pl rfl rfl rfl
theorem s173_34 : WP 173 0 34 L (vI y :: vI x :: S) h Q ↔ zif (x = y) (WP 173 0 37 L S h Q) (WP 173 0 49 L S h Q) := wp_bN zc_eq rfl rfl rfl
theorem s173_37 : WP 173 0 37 [vA r, a1, a2, a3] S h Q ↔ WP 173 0 38 [vA r, a1, a2, a3] (vA r :: S) h Q := wp_aload rfl rfl
theorem s173_38 : WP 173 0 38 [a0, vA r, a2, a3] S h Q ↔ WP 173 0 39 [a0, vA r, a2, a3] (vA r :: S) h Q := wp_aload rfl rfl
theorem s173_39 : WP 173 0 39 [a0, a1, vI x, a3] S h Q ↔ WP 173 0 40 [a0, a1, vI x, a3] (vI x :: S) h Q := wp_iload rfl rfl
theorem s173_40 : WP 173 0 40 [a0, a1, a2, vI x] S h Q ↔ WP 173 0 41 [a0, a1, a2, vI x] (vI x :: S) h Q := wp_iload rfl rfl
theorem s173_41 : WP 173 0 41 L (vI x2 :: vI x1 :: vA r0 :: vA (some a) :: S) h Q ↔ ((hk h a).1 = 110 ∧ (zw S ≤ 8 ∧ WP 159 0 0 [vA (some a), vA r0, vI x1, vI x2, vJ] [] h (zret 173 0 41 44 L S Q))) := wp_V1 (c := 110) rfl rfl (fun _ => rfl) rfl rfl (zcan_of rfl rfl) rfl rfl rfl
theorem s173_44 : WP 173 0 44 L (vI x :: S) h Q ↔ zif (x = 0) (WP 173 0 49 L S h Q) (WP 173 0 47 L S h Q) := wp_bE zc_eq rfl rfl rfl
theorem s173_47 : WP 173 0 47 L S h Q ↔ WP 173 0 48 L (vI 0 :: S) h Q := wp_pl rfl rfl rfl
theorem s173_48 : WP 173 0 48 L [vI x] h Q ↔ ((x = 0 ∨ x = 1) ∧ Q (.inl (some (vI x))) h) := wp_iret rfl rfl
theorem s173_49 : WP 173 0 49 [a0, a1, a2, vI x] S h Q ↔ WP 173 0 52 [a0, a1, a2, vI (wr (x + 1))] S h Q := wp_iinc rfl rfl rfl
theorem s173_52 : WP 173 0 52 L S h Q ↔ WP 173 0 13 L S h Q := wp_pl rfl rfl rfl
theorem s173_55 : WP 173 0 55 L S h Q ↔ WP 173 0 56 L (vI 1 :: S) h Q := wp_pl rfl rfl rfl
theorem s173_56 : WP 173 0 56 L [vI x] h Q ↔ ((x = 0 ∨ x = 1) ∧ Q (.inl (some (vI x))) h) := wp_iret rfl rfl
/-! RepeatFreeModel.greatest(I)I -/
theorem s174_0 : WP 174 0 0 [vA r, a1, a2, a3, a4, a5, a6, a7, a8] S h Q ↔ WP 174 0 1 [vA r, a1, a2, a3, a4, a5, a6, a7, a8] (vA r :: S) h Q := wp_aload rfl rfl
theorem s174_1 : WP 174 0 1 L S h Q ↔ WP 174 0 2 L (vI 0 :: S) h Q := wp_pl rfl rfl rfl
theorem s174_2 : WP 174 0 2 L (vI x :: vA (some a) :: S) h Q ↔ ((zNC ≤ a ∧ zhas 45 (hk h a) = true) ∧ WP 174 0 5 L S (hput h a 45 (vI x)) Q) := wp_put0 rfl rfl
theorem s174_5 : WP 174 0 5 [vA r, a1, a2, a3, a4, a5, a6, a7, a8] S h Q ↔ WP 174 0 6 [vA r, a1, a2, a3, a4, a5, a6, a7, a8] (vA r :: S) h Q := wp_aload rfl rfl
theorem s174_6 : WP 174 0 6 [a0, vI x, a2, a3, a4, a5, a6, a7, a8] S h Q ↔ WP 174 0 7 [a0, vI x, a2, a3, a4, a5, a6, a7, a8] (vI x :: S) h Q := wp_iload rfl rfl
theorem s174_7 : WP 174 0 7 L S h Q ↔ WP 174 0 8 L (vI 0 :: S) h Q := wp_pl rfl rfl rfl
theorem s174_8 : WP 174 0 8 L S h Q ↔ WP 174 0 9 L (vI 2 :: S) h Q := wp_pl rfl rfl rfl
theorem s174_9 : WP 174 0 9 L (vI x2 :: vI x1 :: vI x0 :: S) h Q ↔ (zw S ≤ 8 ∧ WP 183 0 0 [vI x0, vI x1, vI x2] [] h (zret 174 0 9 12 L S Q)) := wp_S rfl rfl (zcan_of rfl rfl) rfl rfl rfl
theorem s174_12 : WP 174 0 12 L (vI x :: S) h Q ↔ zif (x = 0) (WP 174 0 15 L S h Q) (WP 174 0 19 L S h Q) := wp_bN zc_eq rfl rfl rfl
theorem s174_15 : WP 174 0 15 L S h Q ↔ WP 174 0 16 L (vI 1 :: S) h Q := wp_pl rfl rfl rfl
theorem s174_16 : WP 174 0 16 L S h Q ↔ WP 174 0 20 L S h Q := wp_pl rfl rfl rfl
theorem s174_19 : WP 174 0 19 L S h Q ↔ WP 174 0 20 L (vI 0 :: S) h Q := wp_pl rfl rfl rfl
theorem s174_20 : WP 174 0 20 L S h Q ↔ WP 174 0 21 L (vI 1 :: S) h Q := wp_pl rfl rfl rfl
theorem s174_21 : WP 174 0 21 L (vI x1 :: vI x0 :: vA (some a) :: S) h Q ↔ ((hk h a).1 = 110 ∧ (zw S ≤ 8 ∧ WP 248 0 0 [vA (some a), vI x0, vI x1] [] h (zret 174 0 21 24 L S Q))) := wp_V1 (c := 110) rfl rfl (fun _ => rfl) rfl rfl (zcan_of rfl rfl) rfl rfl rfl
theorem s174_24 : WP 174 0 24 L (vI x :: S) h Q ↔ zif (x = 0) (WP 174 0 27 L S h Q) (WP 174 0 34 L S h Q) := wp_bN zc_eq rfl rfl rfl
theorem s174_27 : WP 174 0 27 [vA r, a1, a2, a3, a4, a5, a6, a7, a8] S h Q ↔ WP 174 0 28 [vA r, a1, a2, a3, a4, a5, a6, a7, a8] (vA r :: S) h Q := wp_aload rfl rfl
theorem s174_28 : WP 174 0 28 L (vA (some a) :: S) h Q ↔ (zhas 59 (hk h a) = true ∧ WP 174 0 31 L (hm h a 59 :: S) h Q) := wp_if rfl rfl rfl
theorem s174_31 : WP 174 0 31 L (vI x :: S) h Q ↔ zif (x = 0) (WP 174 0 34 L S h Q) (WP 174 0 47 L S h Q) := wp_bN zc_eq rfl rfl rfl
theorem s174_34 : WP 174 0 34 [vA r, a1, a2, a3, a4, a5, a6, a7, a8] S h Q ↔ WP 174 0 35 [vA r, a1, a2, a3, a4, a5, a6, a7, a8] (vA r :: S) h Q := wp_aload rfl rfl
theorem s174_35 : WP 174 0 35 L (vA (some a) :: S) h Q ↔ (zhas 45 (hk h a) = true ∧ WP 174 0 38 L (hm h a 45 :: S) h Q) := wp_if rfl rfl rfl
theorem s174_38 : WP 174 0 38 L (vI x :: S) h Q ↔ zif (0 < x) (WP 174 0 41 L S h Q) (WP 174 0 45 L S h Q) := wp_bN zc_gt rfl rfl rfl
theorem s174_41 : WP 174 0 41 L S h Q ↔ WP 174 0 42 L (vI 0 :: S) h Q := wp_pl rfl rfl rfl
theorem s174_42 : WP 174 0 42 L S h Q ↔ WP 174 0 46 L S h Q := wp_pl rfl rfl rfl
theorem s174_45 : WP 174 0 45 L S h Q ↔ WP 174 0 46 L (vI (-1) :: S) h Q := wp_pl rfl rfl rfl
theorem s174_46 : WP 174 0 46 L [vI x] h Q ↔ Q (.inl (some (vI x))) h := wp_iret0 rfl rfl
theorem s174_47 : WP 174 0 47 L S h Q ↔ WP 174 0 48 L (vI 1 :: S) h Q := wp_pl rfl rfl rfl
theorem s174_48 : WP 174 0 48 [a0, a1, a2, a3, a4, a5, a6, a7, a8] (vI x :: S) h Q ↔ WP 174 0 49 [a0, a1, vI x, a3, a4, a5, a6, a7, a8] S h Q := wp_istore rfl rfl rfl
theorem s174_49 : WP 174 0 49 L S h Q ↔ WP 174 0 50 L (vI 1 :: S) h Q := wp_pl rfl rfl rfl
theorem s174_50 : WP 174 0 50 [a0, a1, a2, a3, a4, a5, a6, a7, a8] (vI x :: S) h Q ↔ WP 174 0 51 [a0, a1, a2, vI x, a4, a5, a6, a7, a8] S h Q := wp_istore rfl rfl rfl
theorem s174_51 : WP 174 0 51 L S h Q ↔ WP 174 0 52 L (vI 0 :: S) h Q := wp_pl rfl rfl rfl
theorem s174_52 : WP 174 0 52 [a0, a1, a2, a3, a4, a5, a6, a7, a8] (vI x :: S) h Q ↔ WP 174 0 54 [a0, a1, a2, a3, vI x, a5, a6, a7, a8] S h Q := wp_istore rfl rfl rfl
theorem s174_54 : WP 174 0 54 L S h Q ↔ WP 174 0 55 L (vI 0 :: S) h Q := wp_pl rfl rfl rfl
theorem s174_55 : WP 174 0 55 [a0, a1, a2, a3, a4, a5, a6, a7, a8] (vI x :: S) h Q ↔ WP 174 0 57 [a0, a1, a2, a3, a4, vI x, a6, a7, a8] S h Q := wp_istore rfl rfl rfl
theorem s174_57 : WP 174 0 57 [a0, a1, a2, a3, a4, vI x, a6, a7, a8] S h Q ↔ WP 174 0 59 [a0, a1, a2, a3, a4, vI x, a6, a7, a8] (vI x :: S) h Q := wp_iload rfl rfl
theorem s174_59 : WP 174 0 59 [vA r, a1, a2, a3, a4, a5, a6, a7, a8] S h Q ↔ WP 174 0 60 [vA r, a1, a2, a3, a4, a5, a6, a7, a8] (vA r :: S) h Q := wp_aload rfl rfl
theorem s174_60 : WP 174 0 60 L (vA (some a) :: S) h Q ↔ (zhas 59 (hk h a) = true ∧ WP 174 0 63 L (hm h a 59 :: S) h Q) := wp_if rfl rfl rfl
theorem s174_63 : WP 174 0 63 L (vI y :: vI x :: S) h Q ↔ zif (x < y) (WP 174 0 66 L S h Q) (WP 174 0 150 L S h Q) := wp_bN zc_lt rfl rfl rfl
theorem s174_66 : WP 174 0 66 L S h Q ↔ WP 174 0 67 L (vI 1 :: S) h Q := wp_pl rfl rfl rfl
theorem s174_67 : WP 174 0 67 [a0, a1, a2, a3, a4, a5, a6, a7, a8] (vI x :: S) h Q ↔ WP 174 0 69 [a0, a1, a2, a3, a4, a5, vI x, a7, a8] S h Q := wp_istore rfl rfl rfl
theorem s174_69 : WP 174 0 69 [a0, a1, a2, a3, a4, a5, vI x, a7, a8] S h Q ↔ WP 174 0 71 [a0, a1, a2, a3, a4, a5, vI x, a7, a8] (vI x :: S) h Q := wp_iload rfl rfl
theorem s174_71 : WP 174 0 71 [vA r, a1, a2, a3, a4, a5, a6, a7, a8] S h Q ↔ WP 174 0 72 [vA r, a1, a2, a3, a4, a5, a6, a7, a8] (vA r :: S) h Q := wp_aload rfl rfl
theorem s174_72 : WP 174 0 72 L (vA (some a) :: S) h Q ↔ (zhas 59 (hk h a) = true ∧ WP 174 0 75 L (hm h a 59 :: S) h Q) := wp_if rfl rfl rfl
theorem s174_75 : WP 174 0 75 [a0, a1, a2, a3, a4, vI x, a6, a7, a8] S h Q ↔ WP 174 0 77 [a0, a1, a2, a3, a4, vI x, a6, a7, a8] (vI x :: S) h Q := wp_iload rfl rfl
theorem s174_77 : WP 174 0 77 L (vI y :: vI x :: S) h Q ↔ WP 174 0 78 L (vI (wr (x - y)) :: S) h Q := wp_pl rfl rfl rfl
theorem s174_78 : WP 174 0 78 L (vI y :: vI x :: S) h Q ↔ zif (y < x) (WP 174 0 144 L S h Q) (WP 174 0 81 L S h Q) := wp_bE zc_gt rfl rfl rfl
theorem s174_81 : WP 174 0 81 [vA r, a1, a2, a3, a4, a5, a6, a7, a8] S h Q ↔ WP 174 0 82 [vA r, a1, a2, a3, a4, a5, a6, a7, a8] (vA r :: S) h Q := wp_aload rfl rfl
theorem s174_82 : WP 174 0 82 [a0, a1, a2, a3, a4, vI x, a6, a7, a8] S h Q ↔ WP 174 0 84 [a0, a1, a2, a3, a4, vI x, a6, a7, a8] (vI x :: S) h Q := wp_iload rfl rfl
theorem s174_84 : WP 174 0 84 [a0, a1, a2, a3, a4, a5, vI x, a7, a8] S h Q ↔ WP 174 0 86 [a0, a1, a2, a3, a4, a5, vI x, a7, a8] (vI x :: S) h Q := wp_iload rfl rfl
theorem s174_86 : WP 174 0 86 L (vI x1 :: vI x0 :: vA (some a) :: S) h Q ↔ ((hk h a).1 = 110 ∧ (zw S ≤ 8 ∧ WP 232 0 0 [vA (some a), vI x0, vI x1, vJ, vJ] [] h (zret 174 0 86 89 L S Q))) := wp_V1 (c := 110) rfl rfl (fun _ => rfl) rfl rfl (zcan_of rfl rfl) rfl rfl rfl
theorem s174_89 : WP 174 0 89 [a0, a1, a2, a3, a4, a5, a6, a7, a8] (vI x :: S) h Q ↔ WP 174 0 91 [a0, a1, a2, a3, a4, a5, a6, vI x, a8] S h Q := wp_istore rfl rfl rfl
theorem s174_91 : WP 174 0 91 [a0, a1, a2, a3, a4, a5, vI x, a7, a8] S h Q ↔ WP 174 0 93 [a0, a1, a2, a3, a4, a5, vI x, a7, a8] (vI x :: S) h Q := wp_iload rfl rfl
theorem s174_93 : WP 174 0 93 [a0, a1, a2, vI x, a4, a5, a6, a7, a8] S h Q ↔ WP 174 0 94 [a0, a1, a2, vI x, a4, a5, a6, a7, a8] (vI x :: S) h Q := wp_iload rfl rfl
theorem s174_94 : WP 174 0 94 L (vI y :: vI x :: S) h Q ↔ WP 174 0 95 L (vI (wr (x * y)) :: S) h Q := wp_pl rfl rfl rfl
theorem s174_95 : WP 174 0 95 [a0, a1, vI x, a3, a4, a5, a6, a7, a8] S h Q ↔ WP 174 0 96 [a0, a1, vI x, a3, a4, a5, a6, a7, a8] (vI x :: S) h Q := wp_iload rfl rfl
theorem s174_96 : WP 174 0 96 [a0, a1, a2, a3, a4, a5, a6, vI x, a8] S h Q ↔ WP 174 0 98 [a0, a1, a2, a3, a4, a5, a6, vI x, a8] (vI x :: S) h Q := wp_iload rfl rfl
theorem s174_98 : WP 174 0 98 L (vI y :: vI x :: S) h Q ↔ WP 174 0 99 L (vI (wr (x * y)) :: S) h Q := wp_pl rfl rfl rfl
theorem s174_99 : WP 174 0 99 L (vI y :: vI x :: S) h Q ↔ WP 174 0 100 L (vI (wr (x - y)) :: S) h Q := wp_pl rfl rfl rfl
theorem s174_100 : WP 174 0 100 [a0, a1, a2, a3, a4, a5, a6, a7, a8] (vI x :: S) h Q ↔ WP 174 0 102 [a0, a1, a2, a3, a4, a5, a6, a7, vI x] S h Q := wp_istore rfl rfl rfl
theorem s174_102 : WP 174 0 102 [a0, a1, a2, a3, a4, a5, a6, a7, vI x] S h Q ↔ WP 174 0 104 [a0, a1, a2, a3, a4, a5, a6, a7, vI x] (vI x :: S) h Q := wp_iload rfl rfl
theorem s174_104 : WP 174 0 104 L (vI x :: S) h Q ↔ zif (x < 0) (WP 174 0 138 L S h Q) (WP 174 0 107 L S h Q) := wp_bE zc_lt rfl rfl rfl
theorem s174_107 : WP 174 0 107 [a0, a1, a2, a3, a4, a5, a6, a7, vI x] S h Q ↔ WP 174 0 109 [a0, a1, a2, a3, a4, a5, a6, a7, vI x] (vI x :: S) h Q := wp_iload rfl rfl
theorem s174_109 : WP 174 0 109 L (vI x :: S) h Q ↔ zif (x = 0) (WP 174 0 112 L S h Q) (WP 174 0 128 L S h Q) := wp_bN zc_eq rfl rfl rfl
theorem s174_112 : WP 174 0 112 [a0, a1, a2, a3, a4, vI x, a6, a7, a8] S h Q ↔ WP 174 0 114 [a0, a1, a2, a3, a4, vI x, a6, a7, a8] (vI x :: S) h Q := wp_iload rfl rfl
theorem s174_114 : WP 174 0 114 [a0, a1, a2, a3, vI x, a5, a6, a7, a8] S h Q ↔ WP 174 0 116 [a0, a1, a2, a3, vI x, a5, a6, a7, a8] (vI x :: S) h Q := wp_iload rfl rfl
theorem s174_116 : WP 174 0 116 L (vI y :: vI x :: S) h Q ↔ zif (x = y) (WP 174 0 119 L S h Q) (WP 174 0 138 L S h Q) := wp_bN zc_eq rfl rfl rfl
theorem s174_119 : WP 174 0 119 [a0, a1, a2, a3, a4, a5, vI x, a7, a8] S h Q ↔ WP 174 0 121 [a0, a1, a2, a3, a4, a5, vI x, a7, a8] (vI x :: S) h Q := wp_iload rfl rfl
theorem s174_121 : WP 174 0 121 [a0, a1, vI x, a3, a4, a5, a6, a7, a8] S h Q ↔ WP 174 0 122 [a0, a1, vI x, a3, a4, a5, a6, a7, a8] (vI x :: S) h Q := wp_iload rfl rfl
theorem s174_122 : WP 174 0 122 L (vI y :: vI x :: S) h Q ↔ zif (y < x) (WP 174 0 128 L S h Q) (WP 174 0 125 L S h Q) := wp_bE zc_gt rfl rfl rfl
theorem s174_125 : WP 174 0 125 L S h Q ↔ WP 174 0 138 L S h Q := wp_pl rfl rfl rfl
theorem s174_128 : WP 174 0 128 [a0, a1, a2, a3, a4, a5, vI x, a7, a8] S h Q ↔ WP 174 0 130 [a0, a1, a2, a3, a4, a5, vI x, a7, a8] (vI x :: S) h Q := wp_iload rfl rfl
theorem s174_130 : WP 174 0 130 [a0, a1, a2, a3, a4, a5, a6, a7, a8] (vI x :: S) h Q ↔ WP 174 0 131 [a0, a1, vI x, a3, a4, a5, a6, a7, a8] S h Q := wp_istore rfl rfl rfl
theorem s174_131 : WP 174 0 131 [a0, a1, a2, a3, a4, a5, a6, vI x, a8] S h Q ↔ WP 174 0 133 [a0, a1, a2, a3, a4, a5, a6, vI x, a8] (vI x :: S) h Q := wp_iload rfl rfl
theorem s174_133 : WP 174 0 133 [a0, a1, a2, a3, a4, a5, a6, a7, a8] (vI x :: S) h Q ↔ WP 174 0 134 [a0, a1, a2, vI x, a4, a5, a6, a7, a8] S h Q := wp_istore rfl rfl rfl
theorem s174_134 : WP 174 0 134 [a0, a1, a2, a3, a4, vI x, a6, a7, a8] S h Q ↔ WP 174 0 136 [a0, a1, a2, a3, a4, vI x, a6, a7, a8] (vI x :: S) h Q := wp_iload rfl rfl
theorem s174_136 : WP 174 0 136 [a0, a1, a2, a3, a4, a5, a6, a7, a8] (vI x :: S) h Q ↔ WP 174 0 138 [a0, a1, a2, a3, vI x, a5, a6, a7, a8] S h Q := wp_istore rfl rfl rfl
theorem s174_138 : WP 174 0 138 [a0, a1, a2, a3, a4, a5, vI x, a7, a8] S h Q ↔ WP 174 0 141 [a0, a1, a2, a3, a4, a5, vI (wr (x + 1)), a7, a8] S h Q := wp_iinc rfl rfl rfl
theorem s174_141 : WP 174 0 141 L S h Q ↔ WP 174 0 69 L S h Q := wp_pl rfl rfl rfl
theorem s174_144 : WP 174 0 144 [a0, a1, a2, a3, a4, vI x, a6, a7, a8] S h Q ↔ WP 174 0 147 [a0, a1, a2, a3, a4, vI (wr (x + 1)), a6, a7, a8] S h Q := wp_iinc rfl rfl rfl
theorem s174_147 : WP 174 0 147 L S h Q ↔ WP 174 0 57 L S h Q := wp_pl rfl rfl rfl
theorem s174_150 : WP 174 0 150 [a0, vI x, a2, a3, a4, a5, a6, a7, a8] S h Q ↔ WP 174 0 151 [a0, vI x, a2, a3, a4, a5, a6, a7, a8] (vI x :: S) h Q := wp_iload rfl rfl
theorem s174_151 : WP 174 0 151 L (vI x :: S) h Q ↔ zif (x = 0) (WP 174 0 154 L S h Q) (WP 174 0 158 L S h Q) := wp_bN zc_eq rfl rfl rfl
theorem s174_154 : WP 174 0 154 [a0, a1, vI x, a3, a4, a5, a6, a7, a8] S h Q ↔ WP 174 0 155 [a0, a1, vI x, a3, a4, a5, a6, a7, a8] (vI x :: S) h Q := wp_iload rfl rfl
theorem s174_155 : WP 174 0 155 L S h Q ↔ WP 174 0 169 L S h Q := wp_pl rfl rfl rfl
theorem s174_158 : WP 174 0 158 [a0, vI x, a2, a3, a4, a5, a6, a7, a8] S h Q ↔ WP 174 0 159 [a0, vI x, a2, a3, a4, a5, a6, a7, a8] (vI x :: S) h Q := wp_iload rfl rfl
theorem s174_159 : WP 174 0 159 L S h Q ↔ WP 174 0 160 L (vI 1 :: S) h Q := wp_pl rfl rfl rfl
theorem s174_160 : WP 174 0 160 L (vI y :: vI x :: S) h Q ↔ zif (x = y) (WP 174 0 163 L S h Q) (WP 174 0 167 L S h Q) := wp_bN zc_eq rfl rfl rfl
theorem s174_163 : WP 174 0 163 [a0, a1, a2, vI x, a4, a5, a6, a7, a8] S h Q ↔ WP 174 0 164 [a0, a1, a2, vI x, a4, a5, a6, a7, a8] (vI x :: S) h Q := wp_iload rfl rfl
theorem s174_164 : WP 174 0 164 L S h Q ↔ WP 174 0 169 L S h Q := wp_pl rfl rfl rfl
theorem s174_167 : WP 174 0 167 [a0, a1, a2, a3, vI x, a5, a6, a7, a8] S h Q ↔ WP 174 0 169 [a0, a1, a2, a3, vI x, a5, a6, a7, a8] (vI x :: S) h Q := wp_iload rfl rfl
theorem s174_169 : WP 174 0 169 L [vI x] h Q ↔ Q (.inl (some (vI x))) h := wp_iret0 rfl rfl
/-! RepeatFreeModel.grows(I)I -/
theorem s175_0 : WP 175 0 0 [vA r, a1, a2, a3] S h Q ↔ WP 175 0 1 [vA r, a1, a2, a3] (vA r :: S) h Q := wp_aload rfl rfl
theorem s175_1 : WP 175 0 1 L S h Q ↔ WP 175 0 2 L (vI 0 :: S) h Q := wp_pl rfl rfl rfl
theorem s175_2 : WP 175 0 2 L (vI x :: vA (some a) :: S) h Q ↔ ((zNC ≤ a ∧ zhas 45 (hk h a) = true) ∧ WP 175 0 5 L S (hput h a 45 (vI x)) Q) := wp_put0 rfl rfl
theorem s175_5 : WP 175 0 5 [vA r, a1, a2, a3] S h Q ↔ WP 175 0 6 [vA r, a1, a2, a3] (vA r :: S) h Q := wp_aload rfl rfl
theorem s175_6 : WP 175 0 6 [a0, vI x, a2, a3] S h Q ↔ WP 175 0 7 [a0, vI x, a2, a3] (vI x :: S) h Q := wp_iload rfl rfl
theorem s175_7 : WP 175 0 7 L (vI x0 :: vA (some a) :: S) h Q ↔ ((hk h a).1 = 110 ∧ (zw S ≤ 8 ∧ WP 223 0 0 [vA (some a), vI x0] [] h (zret 175 0 7 10 L S Q))) := wp_V1 (c := 110) rfl rfl (fun _ => rfl) rfl rfl (zcan_of rfl rfl) rfl rfl rfl
theorem s175_10 : WP 175 0 10 L (vI x :: S) h Q ↔ zif (x = 0) (WP 175 0 15 L S h Q) (WP 175 0 13 L S h Q) := wp_bE zc_eq rfl rfl rfl
theorem s175_13 : WP 175 0 13 L S h Q ↔ WP 175 0 14 L (vI 0 :: S) h Q := wp_pl rfl rfl rfl
theorem s175_14 : WP 175 0 14 L [vI x] h Q ↔ Q (.inl (some (vI x))) h := wp_iret0 rfl rfl
theorem s175_15 : WP 175 0 15 L S h Q ↔ WP 175 0 16 L (vI 0 :: S) h Q := wp_pl rfl rfl rfl
theorem s175_16 : WP 175 0 16 [a0, a1, a2, a3] (vI x :: S) h Q ↔ WP 175 0 17 [a0, a1, vI x, a3] S h Q := wp_istore rfl rfl rfl
theorem s175_17 : WP 175 0 17 L S h Q ↔ WP 175 0 18 L (vI 0 :: S) h Q := wp_pl rfl rfl rfl
theorem s175_18 : WP 175 0 18 [a0, a1, a2, a3] (vI x :: S) h Q ↔ WP 175 0 19 [a0, a1, a2, vI x] S h Q := wp_istore rfl rfl rfl
theorem s175_19 : WP 175 0 19 [a0, a1, a2, vI x] S h Q ↔ WP 175 0 20 [a0, a1, a2, vI x] (vI x :: S) h Q := wp_iload rfl rfl
theorem s175_20 : WP 175 0 20 [vA r, a1, a2, a3] S h Q ↔ WP 175 0 21 [vA r, a1, a2, a3] (vA r :: S) h Q := wp_aload rfl rfl
theorem s175_21 : WP 175 0 21 L (vA (some a) :: S) h Q ↔ (zhas 54 (hk h a) = true ∧ WP 175 0 24 L (hm h a 54 :: S) h Q) := wp_if rfl rfl rfl
theorem s175_24 : WP 175 0 24 L S h Q ↔ WP 175 0 25 L (vI 0 :: S) h Q := wp_pl rfl rfl rfl
theorem s175_25 : WP 175 0 25 L (vI x :: vA (some a) :: S) h Q ↔ (((hk h a).1 = 1 ∧ 0 ≤ x ∧ x < ((hk h a).2 : Int)) ∧ WP 175 0 26 L (hm h a x.toNat :: S) h Q) := wp_if rfl rfl rfl
theorem s175_26 : WP 175 0 26 L (vI y :: vI x :: S) h Q ↔ zif (x < y) (WP 175 0 29 L S h Q) (WP 175 0 54 L S h Q) := wp_bN zc_lt rfl rfl rfl
theorem s175_29 : WP 175 0 29 [a0, a1, vI x, a3] S h Q ↔ WP 175 0 30 [a0, a1, vI x, a3] (vI x :: S) h Q := wp_iload rfl rfl
theorem s175_30 : WP 175 0 30 [vA r, a1, a2, a3] S h Q ↔ WP 175 0 31 [vA r, a1, a2, a3] (vA r :: S) h Q := wp_aload rfl rfl
theorem s175_31 : WP 175 0 31 [a0, vI x, a2, a3] S h Q ↔ WP 175 0 32 [a0, vI x, a2, a3] (vI x :: S) h Q := wp_iload rfl rfl
theorem s175_32 : WP 175 0 32 [a0, a1, a2, vI x] S h Q ↔ WP 175 0 33 [a0, a1, a2, vI x] (vI x :: S) h Q := wp_iload rfl rfl
theorem s175_33 : WP 175 0 33 L (vI x1 :: vI x0 :: vA (some a) :: S) h Q ↔ ((hk h a).1 = 110 ∧ (zw S ≤ 8 ∧ WP 154 0 0 [vA (some a), vI x0, vI x1] [] h (zret 175 0 33 36 L S Q))) := wp_V1 (c := 110) rfl rfl (fun _ => rfl) rfl rfl (zcan_of rfl rfl) rfl rfl rfl
theorem s175_36 : WP 175 0 36 L (vI x :: S) h Q ↔ zif (x = 0) (WP 175 0 45 L S h Q) (WP 175 0 39 L S h Q) := wp_bE zc_eq rfl rfl rfl
theorem s175_39 : WP 175 0 39 L S h Q ↔ WP 175 0 40 L (vI 1 :: S) h Q := wp_pl rfl rfl rfl
theorem s175_40 : WP 175 0 40 [a0, a1, a2, vI x] S h Q ↔ WP 175 0 41 [a0, a1, a2, vI x] (vI x :: S) h Q := wp_iload rfl rfl
theorem s175_41 : WP 175 0 41 L (vI y :: vI x :: S) h Q ↔ WP 175 0 42 L (vI (zshl x y) :: S) h Q := wp_pl rfl rfl rfl
theorem s175_42 : WP 175 0 42 L S h Q ↔ WP 175 0 46 L S h Q := wp_pl rfl rfl rfl
theorem s175_45 : WP 175 0 45 L S h Q ↔ WP 175 0 46 L (vI 0 :: S) h Q := wp_pl rfl rfl rfl
theorem s175_46 : WP 175 0 46 L (vI y :: vI x :: S) h Q ↔ WP 175 0 47 L (vI (zor x y) :: S) h Q := wp_pl rfl rfl rfl
theorem s175_47 : WP 175 0 47 [a0, a1, a2, a3] (vI x :: S) h Q ↔ WP 175 0 48 [a0, a1, vI x, a3] S h Q := wp_istore rfl rfl rfl
theorem s175_48 : WP 175 0 48 [a0, a1, a2, vI x] S h Q ↔ WP 175 0 51 [a0, a1, a2, vI (wr (x + 1))] S h Q := wp_iinc rfl rfl rfl
theorem s175_51 : WP 175 0 51 L S h Q ↔ WP 175 0 19 L S h Q := wp_pl rfl rfl rfl
theorem s175_54 : WP 175 0 54 [a0, a1, vI x, a3] S h Q ↔ WP 175 0 55 [a0, a1, vI x, a3] (vI x :: S) h Q := wp_iload rfl rfl
theorem s175_55 : WP 175 0 55 L [vI x] h Q ↔ Q (.inl (some (vI x))) h := wp_iret0 rfl rfl
/-! RepeatFreeModel.growth(I)I -/
theorem s176_0 : WP 176 0 0 [vA r, a1, a2, a3] S h Q ↔ WP 176 0 1 [vA r, a1, a2, a3] (vA r :: S) h Q := wp_aload rfl rfl
theorem s176_1 : WP 176 0 1 L S h Q ↔ WP 176 0 2 L (vI 0 :: S) h Q := wp_pl rfl rfl rfl
theorem s176_2 : WP 176 0 2 L (vI x :: vA (some a) :: S) h Q ↔ ((zNC ≤ a ∧ zhas 45 (hk h a) = true) ∧ WP 176 0 5 L S (hput h a 45 (vI x)) Q) := wp_put0 rfl rfl
theorem s176_5 : WP 176 0 5 [vA r, a1, a2, a3] S h Q ↔ WP 176 0 6 [vA r, a1, a2, a3] (vA r :: S) h Q := wp_aload rfl rfl
theorem s176_6 : WP 176 0 6 [a0, vI x, a2, a3] S h Q ↔ WP 176 0 7 [a0, vI x, a2, a3] (vI x :: S) h Q := wp_iload rfl rfl
theorem s176_7 : WP 176 0 7 L S h Q ↔ WP 176 0 8 L (vI 0 :: S) h Q := wp_pl rfl rfl rfl
theorem s176_8 : WP 176 0 8 L S h Q ↔ WP 176 0 10 L (vI 39 :: S) h Q := wp_pl rfl rfl rfl
theorem s176_10 : WP 176 0 10 L (vI x2 :: vI x1 :: vI x0 :: S) h Q ↔ (zw S ≤ 8 ∧ WP 183 0 0 [vI x0, vI x1, vI x2] [] h (zret 176 0 10 13 L S Q)) := wp_S rfl rfl (zcan_of rfl rfl) rfl rfl rfl
theorem s176_13 : WP 176 0 13 L (vI x :: S) h Q ↔ zif (x = 0) (WP 176 0 16 L S h Q) (WP 176 0 20 L S h Q) := wp_bN zc_eq rfl rfl rfl
theorem s176_16 : WP 176 0 16 L S h Q ↔ WP 176 0 17 L (vI 1 :: S) h Q := wp_pl rfl rfl rfl
theorem s176_17 : WP 176 0 17 L S h Q ↔ WP 176 0 21 L S h Q := wp_pl rfl rfl rfl
theorem s176_20 : WP 176 0 20 L S h Q ↔ WP 176 0 21 L (vI 0 :: S) h Q := wp_pl rfl rfl rfl
theorem s176_21 : WP 176 0 21 L S h Q ↔ WP 176 0 22 L (vI 1 :: S) h Q := wp_pl rfl rfl rfl
theorem s176_22 : WP 176 0 22 L (vI x1 :: vI x0 :: vA (some a) :: S) h Q ↔ ((hk h a).1 = 110 ∧ (zw S ≤ 8 ∧ WP 248 0 0 [vA (some a), vI x0, vI x1] [] h (zret 176 0 22 25 L S Q))) := wp_V1 (c := 110) rfl rfl (fun _ => rfl) rfl rfl (zcan_of rfl rfl) rfl rfl rfl
theorem s176_25 : WP 176 0 25 L (vI x :: S) h Q ↔ zif (x = 0) (WP 176 0 30 L S h Q) (WP 176 0 28 L S h Q) := wp_bE zc_eq rfl rfl rfl
theorem s176_28 : WP 176 0 28 L S h Q ↔ WP 176 0 29 L (vI 0 :: S) h Q := wp_pl rfl rfl rfl
theorem s176_29 : WP 176 0 29 L [vI x] h Q ↔ Q (.inl (some (vI x))) h := wp_iret0 rfl rfl
theorem s176_30 : WP 176 0 30 [vA r, a1, a2, a3] S h Q ↔ WP 176 0 31 [vA r, a1, a2, a3] (vA r :: S) h Q := wp_aload rfl rfl
theorem s176_31 : WP 176 0 31 [a0, vI x, a2, a3] S h Q ↔ WP 176 0 32 [a0, vI x, a2, a3] (vI x :: S) h Q := wp_iload rfl rfl
theorem s176_32 : WP 176 0 32 L S h Q ↔ WP 176 0 33 L (vI 1 :: S) h Q := wp_pl rfl rfl rfl
theorem s176_33 : WP 176 0 33 L (vI x1 :: vI x0 :: vA (some a) :: S) h Q ↔ ((hk h a).1 = 110 ∧ (zw S ≤ 8 ∧ WP 152 0 0 [vA (some a), vI x0, vI x1, vJ] [] h (zret 176 0 33 36 L S Q))) := wp_V1 (c := 110) rfl rfl (fun _ => rfl) rfl rfl (zcan_of rfl rfl) rfl rfl rfl
theorem s176_36 : WP 176 0 36 [a0, a1, a2, a3] (vI x :: S) h Q ↔ WP 176 0 37 [a0, a1, vI x, a3] S h Q := wp_istore rfl rfl rfl
theorem s176_37 : WP 176 0 37 [a0, a1, vI x, a3] S h Q ↔ WP 176 0 38 [a0, a1, vI x, a3] (vI x :: S) h Q := wp_iload rfl rfl
theorem s176_38 : WP 176 0 38 L S h Q ↔ WP 176 0 40 L (vI (-2) :: S) h Q := wp_pl rfl rfl rfl
theorem s176_40 : WP 176 0 40 L (vI y :: vI x :: S) h Q ↔ zif (x = y) (WP 176 0 47 L S h Q) (WP 176 0 43 L S h Q) := wp_bE zc_eq rfl rfl rfl
theorem s176_43 : WP 176 0 43 [a0, a1, vI x, a3] S h Q ↔ WP 176 0 44 [a0, a1, vI x, a3] (vI x :: S) h Q := wp_iload rfl rfl
theorem s176_44 : WP 176 0 44 L (vI x :: S) h Q ↔ zif (x = 0) (WP 176 0 47 L S h Q) (WP 176 0 60 L S h Q) := wp_bN zc_eq rfl rfl rfl
theorem s176_47 : WP 176 0 47 [a0, a1, vI x, a3] S h Q ↔ WP 176 0 48 [a0, a1, vI x, a3] (vI x :: S) h Q := wp_iload rfl rfl
theorem s176_48 : WP 176 0 48 L S h Q ↔ WP 176 0 50 L (vI (-2) :: S) h Q := wp_pl rfl rfl rfl
theorem s176_50 : WP 176 0 50 L (vI y :: vI x :: S) h Q ↔ zif (x = y) (WP 176 0 53 L S h Q) (WP 176 0 58 L S h Q) := wp_bN zc_eq rfl rfl rfl
theorem s176_53 : WP 176 0 53 L S h Q ↔ WP 176 0 55 L (vI (-2) :: S) h Q := wp_pl rfl rfl rfl
theorem s176_55 : WP 176 0 55 L S h Q ↔ WP 176 0 59 L S h Q := wp_pl rfl rfl rfl
theorem s176_58 : WP 176 0 58 L S h Q ↔ WP 176 0 59 L (vI (-1) :: S) h Q := wp_pl rfl rfl rfl
theorem s176_59 : WP 176 0 59 L [vI x] h Q ↔ Q (.inl (some (vI x))) h := wp_iret0 rfl rfl
theorem s176_60 : WP 176 0 60 [vA r, a1, a2, a3] S h Q ↔ WP 176 0 61 [vA r, a1, a2, a3] (vA r :: S) h Q := wp_aload rfl rfl
theorem s176_61 : WP 176 0 61 [a0, vI x, a2, a3] S h Q ↔ WP 176 0 62 [a0, vI x, a2, a3] (vI x :: S) h Q := wp_iload rfl rfl
theorem s176_62 : WP 176 0 62 L S h Q ↔ WP 176 0 63 L (vI 1 :: S) h Q := wp_pl rfl rfl rfl
theorem s176_63 : WP 176 0 63 L (vI y :: vI x :: S) h Q ↔ WP 176 0 64 L (vI (wr (x + y)) :: S) h Q := wp_pl rfl rfl rfl
theorem s176_64 : WP 176 0 64 L S h Q ↔ WP 176 0 65 L (vI 1 :: S) h Q := wp_pl rfl rfl rfl
theorem s176_65 : WP 176 0 65 L (vI x1 :: vI x0 :: vA (some a) :: S) h Q ↔ ((hk h a).1 = 110 ∧ (zw S ≤ 8 ∧ WP 152 0 0 [vA (some a), vI x0, vI x1, vJ] [] h (zret 176 0 65 68 L S Q))) := wp_V1 (c := 110) rfl rfl (fun _ => rfl) rfl rfl (zcan_of rfl rfl) rfl rfl rfl
theorem s176_68 : WP 176 0 68 [a0, a1, a2, a3] (vI x :: S) h Q ↔ WP 176 0 69 [a0, a1, a2, vI x] S h Q := wp_istore rfl rfl rfl
theorem s176_69 : WP 176 0 69 [a0, a1, a2, vI x] S h Q ↔ WP 176 0 70 [a0, a1, a2, vI x] (vI x :: S) h Q := wp_iload rfl rfl
theorem s176_70 : WP 176 0 70 L S h Q ↔ WP 176 0 72 L (vI (-2) :: S) h Q := wp_pl rfl rfl rfl
theorem s176_72 : WP 176 0 72 L (vI y :: vI x :: S) h Q ↔ zif (x = y) (WP 176 0 75 L S h Q) (WP 176 0 80 L S h Q) := wp_bN zc_eq rfl rfl rfl
theorem s176_75 : WP 176 0 75 L S h Q ↔ WP 176 0 77 L (vI (-2) :: S) h Q := wp_pl rfl rfl rfl
theorem s176_77 : WP 176 0 77 L S h Q ↔ WP 176 0 87 L S h Q := wp_pl rfl rfl rfl
theorem s176_80 : WP 176 0 80 L S h Q ↔ WP 176 0 83 L (vI 1000 :: S) h Q := wp_pl rfl rfl rfl
theorem s176_83 : WP 176 0 83 [a0, a1, a2, vI x] S h Q ↔ WP 176 0 84 [a0, a1, a2, vI x] (vI x :: S) h Q := wp_iload rfl rfl
theorem s176_84 : WP 176 0 84 L (vI y :: vI x :: S) h Q ↔ WP 176 0 85 L (vI (wr (x * y)) :: S) h Q := wp_pl rfl rfl rfl
theorem s176_85 : WP 176 0 85 [a0, a1, vI x, a3] S h Q ↔ WP 176 0 86 [a0, a1, vI x, a3] (vI x :: S) h Q := wp_iload rfl rfl
theorem s176_86 : WP 176 0 86 L (vI y :: vI x :: S) h Q ↔ (¬ y = 0 ∧ WP 176 0 87 L (vI (wr (x.tdiv y)) :: S) h Q) := wp_ifx rfl rfl rfl
theorem s176_87 : WP 176 0 87 L [vI x] h Q ↔ Q (.inl (some (vI x))) h := wp_iret0 rfl rfl
/-! RepeatFreeModel.hasFailed()Z -/
theorem s177_0 : WP 177 0 0 [vA r] S h Q ↔ WP 177 0 1 [vA r] (vA r :: S) h Q := wp_aload rfl rfl
theorem s177_1 : WP 177 0 1 L (vA (some a) :: S) h Q ↔ (zhas 52 (hk h a) = true ∧ WP 177 0 4 L (hm h a 52 :: S) h Q) := wp_if rfl rfl rfl
theorem s177_4 : WP 177 0 4 L S h Q ↔ WP 177 0 5 L (vI (-1) :: S) h Q := wp_pl rfl rfl rfl
theorem s177_5 : WP 177 0 5 L (vI y :: vI x :: S) h Q ↔ zif (x = y) (WP 177 0 12 L S h Q) (WP 177 0 8 L S h Q) := wp_bE zc_eq rfl rfl rfl
theorem s177_8 : WP 177 0 8 L S h Q ↔ WP 177 0 9 L (vI 1 :: S) h Q := wp_pl rfl rfl rfl
theorem s177_9 : WP 177 0 9 L S h Q ↔ WP 177 0 13 L S h Q := wp_pl rfl rfl rfl
theorem s177_12 : WP 177 0 12 L S h Q ↔ WP 177 0 13 L (vI 0 :: S) h Q := wp_pl rfl rfl rfl
theorem s177_13 : WP 177 0 13 L [vI x] h Q ↔ ((x = 0 ∨ x = 1) ∧ Q (.inl (some (vI x))) h) := wp_iret rfl rfl
/-! RepeatFreeModel.hasLetter(II)Z -/
theorem s178_0 : WP 178 0 0 L S h Q ↔ WP 178 0 1 L (vI 0 :: S) h Q := wp_pl rfl rfl rfl
theorem s178_1 : WP 178 0 1 [a0, a1, a2, a3] (vI x :: S) h Q ↔ WP 178 0 2 [a0, a1, a2, vI x] S h Q := wp_istore rfl rfl rfl
theorem s178_2 : WP 178 0 2 [a0, a1, a2, vI x] S h Q ↔ WP 178 0 3 [a0, a1, a2, vI x] (vI x :: S) h Q := wp_iload rfl rfl
theorem s178_3 : WP 178 0 3 [vA r, a1, a2, a3] S h Q ↔ WP 178 0 4 [vA r, a1, a2, a3] (vA r :: S) h Q := wp_aload rfl rfl
theorem s178_4 : WP 178 0 4 L (vA (some a) :: S) h Q ↔ (zhas 54 (hk h a) = true ∧ WP 178 0 7 L (hm h a 54 :: S) h Q) := wp_if rfl rfl rfl
theorem s178_7 : WP 178 0 7 L S h Q ↔ WP 178 0 10 L (vI 166 :: S) h Q := wp_pl rfl rfl rfl
theorem s178_10 : WP 178 0 10 [a0, vI x, a2, a3] S h Q ↔ WP 178 0 11 [a0, vI x, a2, a3] (vI x :: S) h Q := wp_iload rfl rfl
theorem s178_11 : WP 178 0 11 L (vI y :: vI x :: S) h Q ↔ WP 178 0 12 L (vI (wr (x + y)) :: S) h Q := wp_pl rfl rfl rfl
theorem s178_12 : WP 178 0 12 L (vI x :: vA (some a) :: S) h Q ↔ (((hk h a).1 = 1 ∧ 0 ≤ x ∧ x < ((hk h a).2 : Int)) ∧ WP 178 0 13 L (hm h a x.toNat :: S) h Q) := wp_if rfl rfl rfl
theorem s178_13 : WP 178 0 13 L (vI y :: vI x :: S) h Q ↔ zif (x < y) (WP 178 0 16 L S h Q) (WP 178 0 34 L S h Q) := wp_bN zc_lt rfl rfl rfl
theorem s178_16 : WP 178 0 16 [vA r, a1, a2, a3] S h Q ↔ WP 178 0 17 [vA r, a1, a2, a3] (vA r :: S) h Q := wp_aload rfl rfl
theorem s178_17 : WP 178 0 17 [a0, vI x, a2, a3] S h Q ↔ WP 178 0 18 [a0, vI x, a2, a3] (vI x :: S) h Q := wp_iload rfl rfl
theorem s178_18 : WP 178 0 18 [a0, a1, a2, vI x] S h Q ↔ WP 178 0 19 [a0, a1, a2, vI x] (vI x :: S) h Q := wp_iload rfl rfl
theorem s178_19 : WP 178 0 19 L (vI x1 :: vI x0 :: vA (some a) :: S) h Q ↔ ((hk h a).1 = 110 ∧ (zw S ≤ 8 ∧ WP 202 0 0 [vA (some a), vI x0, vI x1] [] h (zret 178 0 19 22 L S Q))) := wp_V1 (c := 110) rfl rfl (fun _ => rfl) rfl rfl (zcan_of rfl rfl) rfl rfl rfl
theorem s178_22 : WP 178 0 22 [a0, a1, vI x, a3] S h Q ↔ WP 178 0 23 [a0, a1, vI x, a3] (vI x :: S) h Q := wp_iload rfl rfl
theorem s178_23 : WP 178 0 23 L (vI y :: vI x :: S) h Q ↔ zif (x = y) (WP 178 0 26 L S h Q) (WP 178 0 28 L S h Q) := wp_bN zc_eq rfl rfl rfl
theorem s178_26 : WP 178 0 26 L S h Q ↔ WP 178 0 27 L (vI 1 :: S) h Q := wp_pl rfl rfl rfl
theorem s178_27 : WP 178 0 27 L [vI x] h Q ↔ ((x = 0 ∨ x = 1) ∧ Q (.inl (some (vI x))) h) := wp_iret rfl rfl
theorem s178_28 : WP 178 0 28 [a0, a1, a2, vI x] S h Q ↔ WP 178 0 31 [a0, a1, a2, vI (wr (x + 1))] S h Q := wp_iinc rfl rfl rfl
theorem s178_31 : WP 178 0 31 L S h Q ↔ WP 178 0 2 L S h Q := wp_pl rfl rfl rfl
theorem s178_34 : WP 178 0 34 L S h Q ↔ WP 178 0 35 L (vI 0 :: S) h Q := wp_pl rfl rfl rfl
theorem s178_35 : WP 178 0 35 L [vI x] h Q ↔ ((x = 0 ∨ x = 1) ∧ Q (.inl (some (vI x))) h) := wp_iret rfl rfl
/-! RepeatFreeModel.image(I)I -/
theorem s179_0 : WP 179 0 0 [vA r, a1, a2, a3] S h Q ↔ WP 179 0 1 [vA r, a1, a2, a3] (vA r :: S) h Q := wp_aload rfl rfl
theorem s179_1 : WP 179 0 1 L S h Q ↔ WP 179 0 2 L (vI 0 :: S) h Q := wp_pl rfl rfl rfl
theorem s179_2 : WP 179 0 2 L (vI x :: vA (some a) :: S) h Q ↔ ((zNC ≤ a ∧ zhas 45 (hk h a) = true) ∧ WP 179 0 5 L S (hput h a 45 (vI x)) Q) := wp_put0 rfl rfl
theorem s179_5 : WP 179 0 5 [vA r, a1, a2, a3] S h Q ↔ WP 179 0 6 [vA r, a1, a2, a3] (vA r :: S) h Q := wp_aload rfl rfl
theorem s179_6 : WP 179 0 6 [a0, vI x, a2, a3] S h Q ↔ WP 179 0 7 [a0, vI x, a2, a3] (vI x :: S) h Q := wp_iload rfl rfl
theorem s179_7 : WP 179 0 7 L (vI x0 :: vA (some a) :: S) h Q ↔ ((hk h a).1 = 110 ∧ (zw S ≤ 8 ∧ WP 223 0 0 [vA (some a), vI x0] [] h (zret 179 0 7 10 L S Q))) := wp_V1 (c := 110) rfl rfl (fun _ => rfl) rfl rfl (zcan_of rfl rfl) rfl rfl rfl
theorem s179_10 : WP 179 0 10 L (vI x :: S) h Q ↔ zif (x = 0) (WP 179 0 15 L S h Q) (WP 179 0 13 L S h Q) := wp_bE zc_eq rfl rfl rfl
theorem s179_13 : WP 179 0 13 L S h Q ↔ WP 179 0 14 L (vI 0 :: S) h Q := wp_pl rfl rfl rfl
theorem s179_14 : WP 179 0 14 L [vI x] h Q ↔ Q (.inl (some (vI x))) h := wp_iret0 rfl rfl
theorem s179_15 : WP 179 0 15 [vA r, a1, a2, a3] S h Q ↔ WP 179 0 16 [vA r, a1, a2, a3] (vA r :: S) h Q := wp_aload rfl rfl
theorem s179_16 : WP 179 0 16 [vA r, a1, a2, a3] S h Q ↔ WP 179 0 17 [vA r, a1, a2, a3] (vA r :: S) h Q := wp_aload rfl rfl
theorem s179_17 : WP 179 0 17 L (vA (some a) :: S) h Q ↔ (zhas 57 (hk h a) = true ∧ WP 179 0 20 L (hm h a 57 :: S) h Q) := wp_if rfl rfl rfl
theorem s179_20 : WP 179 0 20 [vA r, a1, a2, a3] S h Q ↔ WP 179 0 21 [vA r, a1, a2, a3] (vA r :: S) h Q := wp_aload rfl rfl
theorem s179_21 : WP 179 0 21 L (vA (some a) :: S) h Q ↔ (zhas 59 (hk h a) = true ∧ WP 179 0 24 L (hm h a 59 :: S) h Q) := wp_if rfl rfl rfl
theorem s179_24 : WP 179 0 24 [a0, vI x, a2, a3] S h Q ↔ WP 179 0 25 [a0, vI x, a2, a3] (vI x :: S) h Q := wp_iload rfl rfl
theorem s179_25 : WP 179 0 25 L (vI x2 :: vI x1 :: vA r0 :: vA (some a) :: S) h Q ↔ ((hk h a).1 = 110 ∧ (zw S ≤ 8 ∧ WP 182 0 0 [vA (some a), vA r0, vI x1, vI x2, vJ, vJ, vJ] [] h (zret 179 0 25 28 L S Q))) := wp_V1 (c := 110) rfl rfl (fun _ => rfl) rfl rfl (zcan_of rfl rfl) rfl rfl rfl
theorem s179_28 : WP 179 0 28 [a0, a1, a2, a3] (vI x :: S) h Q ↔ WP 179 0 29 [a0, a1, vI x, a3] S h Q := wp_istore rfl rfl rfl
theorem s179_29 : WP 179 0 29 [vA r, a1, a2, a3] S h Q ↔ WP 179 0 30 [vA r, a1, a2, a3] (vA r :: S) h Q := wp_aload rfl rfl
theorem s179_30 : WP 179 0 30 [a0, a1, vI x, a3] S h Q ↔ WP 179 0 31 [a0, a1, vI x, a3] (vI x :: S) h Q := wp_iload rfl rfl
theorem s179_31 : WP 179 0 31 L S h Q ↔ WP 179 0 33 L (vI 64 :: S) h Q := wp_pl rfl rfl rfl
theorem s179_33 : WP 179 0 33 L (vI y :: vI x :: S) h Q ↔ zif (y < x) (WP 179 0 36 L S h Q) (WP 179 0 40 L S h Q) := wp_bN zc_gt rfl rfl rfl
theorem s179_36 : WP 179 0 36 L S h Q ↔ WP 179 0 37 L (vI 1 :: S) h Q := wp_pl rfl rfl rfl
theorem s179_37 : WP 179 0 37 L S h Q ↔ WP 179 0 41 L S h Q := wp_pl rfl rfl rfl
theorem s179_40 : WP 179 0 40 L S h Q ↔ WP 179 0 41 L (vI 0 :: S) h Q := wp_pl rfl rfl rfl
theorem s179_41 : WP 179 0 41 L S h Q ↔ WP 179 0 42 L (vI 2 :: S) h Q := wp_pl rfl rfl rfl
theorem s179_42 : WP 179 0 42 L (vI x1 :: vI x0 :: vA (some a) :: S) h Q ↔ ((hk h a).1 = 110 ∧ (zw S ≤ 8 ∧ WP 248 0 0 [vA (some a), vI x0, vI x1] [] h (zret 179 0 42 45 L S Q))) := wp_V1 (c := 110) rfl rfl (fun _ => rfl) rfl rfl (zcan_of rfl rfl) rfl rfl rfl
theorem s179_45 : WP 179 0 45 L (vI x :: S) h Q ↔ zif (x = 0) (WP 179 0 50 L S h Q) (WP 179 0 48 L S h Q) := wp_bE zc_eq rfl rfl rfl
theorem s179_48 : WP 179 0 48 L S h Q ↔ WP 179 0 49 L (vI 0 :: S) h Q := wp_pl rfl rfl rfl
theorem s179_49 : WP 179 0 49 L [vI x] h Q ↔ Q (.inl (some (vI x))) h := wp_iret0 rfl rfl
theorem s179_50 : WP 179 0 50 L S h Q ↔ WP 179 0 51 L (vI 0 :: S) h Q := wp_pl rfl rfl rfl
theorem s179_51 : WP 179 0 51 [a0, a1, a2, a3] (vI x :: S) h Q ↔ WP 179 0 52 [a0, a1, a2, vI x] S h Q := wp_istore rfl rfl rfl
theorem s179_52 : WP 179 0 52 [a0, a1, a2, vI x] S h Q ↔ WP 179 0 53 [a0, a1, a2, vI x] (vI x :: S) h Q := wp_iload rfl rfl
theorem s179_53 : WP 179 0 53 [a0, a1, vI x, a3] S h Q ↔ WP 179 0 54 [a0, a1, vI x, a3] (vI x :: S) h Q := wp_iload rfl rfl
theorem s179_54 : WP 179 0 54 L (vI y :: vI x :: S) h Q ↔ zif (x < y) (WP 179 0 57 L S h Q) (WP 179 0 75 L S h Q) := wp_bN zc_lt rfl rfl rfl
theorem s179_57 : WP 179 0 57 [vA r, a1, a2, a3] S h Q ↔ WP 179 0 58 [vA r, a1, a2, a3] (vA r :: S) h Q := wp_aload rfl rfl
theorem s179_58 : WP 179 0 58 L (vA (some a) :: S) h Q ↔ (zhas 58 (hk h a) = true ∧ WP 179 0 61 L (hm h a 58 :: S) h Q) := wp_if rfl rfl rfl
theorem s179_61 : WP 179 0 61 [a0, a1, a2, vI x] S h Q ↔ WP 179 0 62 [a0, a1, a2, vI x] (vI x :: S) h Q := wp_iload rfl rfl
theorem s179_62 : WP 179 0 62 [vA r, a1, a2, a3] S h Q ↔ WP 179 0 63 [vA r, a1, a2, a3] (vA r :: S) h Q := wp_aload rfl rfl
theorem s179_63 : WP 179 0 63 L (vA (some a) :: S) h Q ↔ (zhas 71 (hk h a) = true ∧ WP 179 0 66 L (hm h a 71 :: S) h Q) := wp_if rfl rfl rfl
theorem s179_66 : WP 179 0 66 [a0, a1, a2, vI x] S h Q ↔ WP 179 0 67 [a0, a1, a2, vI x] (vI x :: S) h Q := wp_iload rfl rfl
theorem s179_67 : WP 179 0 67 L (vI x :: vA (some a) :: S) h Q ↔ (((hk h a).1 = 1 ∧ 0 ≤ x ∧ x < ((hk h a).2 : Int)) ∧ WP 179 0 68 L (hm h a x.toNat :: S) h Q) := wp_if rfl rfl rfl
theorem s179_68 : WP 179 0 68 L (vI y :: vI x :: vA (some a) :: S) h Q ↔ (((hk h a).1 = 1 ∧ (0 ≤ x ∧ x < ((hk h a).2 : Int)) ∧ zNC ≤ a) ∧ WP 179 0 69 L S (hput h a x.toNat (vI y)) Q) := wp_if rfl rfl rfl
theorem s179_69 : WP 179 0 69 [a0, a1, a2, vI x] S h Q ↔ WP 179 0 72 [a0, a1, a2, vI (wr (x + 1))] S h Q := wp_iinc rfl rfl rfl
theorem s179_72 : WP 179 0 72 L S h Q ↔ WP 179 0 52 L S h Q := wp_pl rfl rfl rfl
theorem s179_75 : WP 179 0 75 [vA r, a1, a2, a3] S h Q ↔ WP 179 0 76 [vA r, a1, a2, a3] (vA r :: S) h Q := wp_aload rfl rfl
theorem s179_76 : WP 179 0 76 [a0, a1, vI x, a3] S h Q ↔ WP 179 0 77 [a0, a1, vI x, a3] (vI x :: S) h Q := wp_iload rfl rfl
theorem s179_77 : WP 179 0 77 L (vI x0 :: vA (some a) :: S) h Q ↔ ((hk h a).1 = 110 ∧ (zw S ≤ 8 ∧ WP 142 0 0 [vA (some a), vI x0, vJ] [] h (zret 179 0 77 80 L S Q))) := wp_V1 (c := 110) rfl rfl (fun _ => rfl) rfl rfl (zcan_of rfl rfl) rfl rfl rfl
theorem s179_80 : WP 179 0 80 [vA r, a1, a2, a3] S h Q ↔ WP 179 0 81 [vA r, a1, a2, a3] (vA r :: S) h Q := wp_aload rfl rfl
theorem s179_81 : WP 179 0 81 L (vA (some a) :: S) h Q ↔ (zhas 59 (hk h a) = true ∧ WP 179 0 84 L (hm h a 59 :: S) h Q) := wp_if rfl rfl rfl
theorem s179_84 : WP 179 0 84 L [vI x] h Q ↔ Q (.inl (some (vI x))) h := wp_iret0 rfl rfl
/-! RepeatFreeModel.imageOf(III)I -/
theorem s180_0 : WP 180 0 0 [vA r, a1, a2, a3] S h Q ↔ WP 180 0 1 [vA r, a1, a2, a3] (vA r :: S) h Q := wp_aload rfl rfl
theorem s180_1 : WP 180 0 1 L (vA (some a) :: S) h Q ↔ (zhas 54 (hk h a) = true ∧ WP 180 0 4 L (hm h a 54 :: S) h Q) := wp_if rfl rfl rfl
theorem s180_4 : WP 180 0 4 L S h Q ↔ WP 180 0 6 L (vI 70 :: S) h Q := wp_pl rfl rfl rfl
theorem s180_6 : WP 180 0 6 L S h Q ↔ WP 180 0 8 L (vI 6 :: S) h Q := wp_pl rfl rfl rfl
theorem s180_8 : WP 180 0 8 L S h Q ↔ WP 180 0 9 L (vI 4 :: S) h Q := wp_pl rfl rfl rfl
theorem s180_9 : WP 180 0 9 [a0, vI x, a2, a3] S h Q ↔ WP 180 0 10 [a0, vI x, a2, a3] (vI x :: S) h Q := wp_iload rfl rfl
theorem s180_10 : WP 180 0 10 L (vI y :: vI x :: S) h Q ↔ WP 180 0 11 L (vI (wr (x * y)) :: S) h Q := wp_pl rfl rfl rfl
theorem s180_11 : WP 180 0 11 [a0, a1, vI x, a3] S h Q ↔ WP 180 0 12 [a0, a1, vI x, a3] (vI x :: S) h Q := wp_iload rfl rfl
theorem s180_12 : WP 180 0 12 L (vI y :: vI x :: S) h Q ↔ WP 180 0 13 L (vI (wr (x + y)) :: S) h Q := wp_pl rfl rfl rfl
theorem s180_13 : WP 180 0 13 L (vI y :: vI x :: S) h Q ↔ WP 180 0 14 L (vI (wr (x * y)) :: S) h Q := wp_pl rfl rfl rfl
theorem s180_14 : WP 180 0 14 L (vI y :: vI x :: S) h Q ↔ WP 180 0 15 L (vI (wr (x + y)) :: S) h Q := wp_pl rfl rfl rfl
theorem s180_15 : WP 180 0 15 [a0, a1, a2, vI x] S h Q ↔ WP 180 0 16 [a0, a1, a2, vI x] (vI x :: S) h Q := wp_iload rfl rfl
theorem s180_16 : WP 180 0 16 L (vI y :: vI x :: S) h Q ↔ WP 180 0 17 L (vI (wr (x + y)) :: S) h Q := wp_pl rfl rfl rfl
theorem s180_17 : WP 180 0 17 L (vI x :: vA (some a) :: S) h Q ↔ (((hk h a).1 = 1 ∧ 0 ≤ x ∧ x < ((hk h a).2 : Int)) ∧ WP 180 0 18 L (hm h a x.toNat :: S) h Q) := wp_if rfl rfl rfl
theorem s180_18 : WP 180 0 18 L [vI x] h Q ↔ Q (.inl (some (vI x))) h := wp_iret0 rfl rfl
/-! RepeatFreeModel.imaged(III)I -/
theorem s181_0 : WP 181 0 0 [vA r, a1, a2, a3] S h Q ↔ WP 181 0 1 [vA r, a1, a2, a3] (vA r :: S) h Q := wp_aload rfl rfl
theorem s181_1 : WP 181 0 1 L S h Q ↔ WP 181 0 2 L (vI 0 :: S) h Q := wp_pl rfl rfl rfl
theorem s181_2 : WP 181 0 2 L (vI x :: vA (some a) :: S) h Q ↔ ((zNC ≤ a ∧ zhas 45 (hk h a) = true) ∧ WP 181 0 5 L S (hput h a 45 (vI x)) Q) := wp_put0 rfl rfl
theorem s181_5 : WP 181 0 5 [vA r, a1, a2, a3] S h Q ↔ WP 181 0 6 [vA r, a1, a2, a3] (vA r :: S) h Q := wp_aload rfl rfl
theorem s181_6 : WP 181 0 6 [a0, vI x, a2, a3] S h Q ↔ WP 181 0 7 [a0, vI x, a2, a3] (vI x :: S) h Q := wp_iload rfl rfl
theorem s181_7 : WP 181 0 7 L (vI x0 :: vA (some a) :: S) h Q ↔ ((hk h a).1 = 110 ∧ (zw S ≤ 8 ∧ WP 223 0 0 [vA (some a), vI x0] [] h (zret 181 0 7 10 L S Q))) := wp_V1 (c := 110) rfl rfl (fun _ => rfl) rfl rfl (zcan_of rfl rfl) rfl rfl rfl
theorem s181_10 : WP 181 0 10 L (vI x :: S) h Q ↔ zif (x = 0) (WP 181 0 13 L S h Q) (WP 181 0 22 L S h Q) := wp_bN zc_eq rfl rfl rfl
theorem s181_13 : WP 181 0 13 [vA r, a1, a2, a3] S h Q ↔ WP 181 0 14 [vA r, a1, a2, a3] (vA r :: S) h Q := wp_aload rfl rfl
theorem s181_14 : WP 181 0 14 [a0, a1, vI x, a3] S h Q ↔ WP 181 0 15 [a0, a1, vI x, a3] (vI x :: S) h Q := wp_iload rfl rfl
theorem s181_15 : WP 181 0 15 L S h Q ↔ WP 181 0 16 L (vI 2 :: S) h Q := wp_pl rfl rfl rfl
theorem s181_16 : WP 181 0 16 L (vI x1 :: vI x0 :: vA (some a) :: S) h Q ↔ ((hk h a).1 = 110 ∧ (zw S ≤ 8 ∧ WP 222 0 0 [vA (some a), vI x0, vI x1] [] h (zret 181 0 16 19 L S Q))) := wp_V1 (c := 110) rfl rfl (fun _ => rfl) rfl rfl (zcan_of rfl rfl) rfl rfl rfl
theorem s181_19 : WP 181 0 19 L (vI x :: S) h Q ↔ zif (x = 0) (WP 181 0 24 L S h Q) (WP 181 0 22 L S h Q) := wp_bE zc_eq rfl rfl rfl
theorem s181_22 : WP 181 0 22 L S h Q ↔ WP 181 0 23 L (vI 0 :: S) h Q := wp_pl rfl rfl rfl
theorem s181_23 : WP 181 0 23 L [vI x] h Q ↔ Q (.inl (some (vI x))) h := wp_iret0 rfl rfl
theorem s181_24 : WP 181 0 24 [a0, a1, a2, vI x] S h Q ↔ WP 181 0 25 [a0, a1, a2, vI x] (vI x :: S) h Q := wp_iload rfl rfl
theorem s181_25 : WP 181 0 25 L S h Q ↔ WP 181 0 26 L (vI (-1) :: S) h Q := wp_pl rfl rfl rfl
theorem s181_26 : WP 181 0 26 L (vI y :: vI x :: S) h Q ↔ zif (x = y) (WP 181 0 29 L S h Q) (WP 181 0 38 L S h Q) := wp_bN zc_eq rfl rfl rfl
theorem s181_29 : WP 181 0 29 [vA r, a1, a2, a3] S h Q ↔ WP 181 0 30 [vA r, a1, a2, a3] (vA r :: S) h Q := wp_aload rfl rfl
theorem s181_30 : WP 181 0 30 [a0, vI x, a2, a3] S h Q ↔ WP 181 0 31 [a0, vI x, a2, a3] (vI x :: S) h Q := wp_iload rfl rfl
theorem s181_31 : WP 181 0 31 [a0, a1, vI x, a3] S h Q ↔ WP 181 0 32 [a0, a1, vI x, a3] (vI x :: S) h Q := wp_iload rfl rfl
theorem s181_32 : WP 181 0 32 L (vI x1 :: vI x0 :: vA (some a) :: S) h Q ↔ ((hk h a).1 = 110 ∧ (zw S ≤ 8 ∧ WP 210 0 0 [vA (some a), vI x0, vI x1] [] h (zret 181 0 32 35 L S Q))) := wp_V1 (c := 110) rfl rfl (fun _ => rfl) rfl rfl (zcan_of rfl rfl) rfl rfl rfl
theorem s181_35 : WP 181 0 35 L S h Q ↔ WP 181 0 65 L S h Q := wp_pl rfl rfl rfl
theorem s181_38 : WP 181 0 38 [a0, a1, a2, vI x] S h Q ↔ WP 181 0 39 [a0, a1, a2, vI x] (vI x :: S) h Q := wp_iload rfl rfl
theorem s181_39 : WP 181 0 39 L S h Q ↔ WP 181 0 40 L (vI 0 :: S) h Q := wp_pl rfl rfl rfl
theorem s181_40 : WP 181 0 40 [vA r, a1, a2, a3] S h Q ↔ WP 181 0 41 [vA r, a1, a2, a3] (vA r :: S) h Q := wp_aload rfl rfl
theorem s181_41 : WP 181 0 41 [a0, vI x, a2, a3] S h Q ↔ WP 181 0 42 [a0, vI x, a2, a3] (vI x :: S) h Q := wp_iload rfl rfl
theorem s181_42 : WP 181 0 42 [a0, a1, vI x, a3] S h Q ↔ WP 181 0 43 [a0, a1, vI x, a3] (vI x :: S) h Q := wp_iload rfl rfl
theorem s181_43 : WP 181 0 43 L (vI x1 :: vI x0 :: vA (some a) :: S) h Q ↔ ((hk h a).1 = 110 ∧ (zw S ≤ 8 ∧ WP 210 0 0 [vA (some a), vI x0, vI x1] [] h (zret 181 0 43 46 L S Q))) := wp_V1 (c := 110) rfl rfl (fun _ => rfl) rfl rfl (zcan_of rfl rfl) rfl rfl rfl
theorem s181_46 : WP 181 0 46 L S h Q ↔ WP 181 0 47 L (vI 1 :: S) h Q := wp_pl rfl rfl rfl
theorem s181_47 : WP 181 0 47 L (vI y :: vI x :: S) h Q ↔ WP 181 0 48 L (vI (wr (x - y)) :: S) h Q := wp_pl rfl rfl rfl
theorem s181_48 : WP 181 0 48 L (vI x2 :: vI x1 :: vI x0 :: S) h Q ↔ (zw S ≤ 8 ∧ WP 183 0 0 [vI x0, vI x1, vI x2] [] h (zret 181 0 48 51 L S Q)) := wp_S rfl rfl (zcan_of rfl rfl) rfl rfl rfl
theorem s181_51 : WP 181 0 51 L (vI x :: S) h Q ↔ zif (x = 0) (WP 181 0 64 L S h Q) (WP 181 0 54 L S h Q) := wp_bE zc_eq rfl rfl rfl
theorem s181_54 : WP 181 0 54 [vA r, a1, a2, a3] S h Q ↔ WP 181 0 55 [vA r, a1, a2, a3] (vA r :: S) h Q := wp_aload rfl rfl
theorem s181_55 : WP 181 0 55 [a0, vI x, a2, a3] S h Q ↔ WP 181 0 56 [a0, vI x, a2, a3] (vI x :: S) h Q := wp_iload rfl rfl
theorem s181_56 : WP 181 0 56 [a0, a1, vI x, a3] S h Q ↔ WP 181 0 57 [a0, a1, vI x, a3] (vI x :: S) h Q := wp_iload rfl rfl
theorem s181_57 : WP 181 0 57 [a0, a1, a2, vI x] S h Q ↔ WP 181 0 58 [a0, a1, a2, vI x] (vI x :: S) h Q := wp_iload rfl rfl
theorem s181_58 : WP 181 0 58 L (vI x2 :: vI x1 :: vI x0 :: vA (some a) :: S) h Q ↔ ((hk h a).1 = 110 ∧ (zw S ≤ 8 ∧ WP 180 0 0 [vA (some a), vI x0, vI x1, vI x2] [] h (zret 181 0 58 61 L S Q))) := wp_V1 (c := 110) rfl rfl (fun _ => rfl) rfl rfl (zcan_of rfl rfl) rfl rfl rfl
theorem s181_61 : WP 181 0 61 L S h Q ↔ WP 181 0 65 L S h Q := wp_pl rfl rfl rfl
theorem s181_64 : WP 181 0 64 L S h Q ↔ WP 181 0 65 L (vI (-1) :: S) h Q := wp_pl rfl rfl rfl
theorem s181_65 : WP 181 0 65 L [vI x] h Q ↔ Q (.inl (some (vI x))) h := wp_iret0 rfl rfl
/-! RepeatFreeModel.images([III)I -/
theorem s182_0 : WP 182 0 0 L S h Q ↔ WP 182 0 1 L (vI 0 :: S) h Q := wp_pl rfl rfl rfl
theorem s182_1 : WP 182 0 1 [a0, a1, a2, a3, a4, a5, a6] (vI x :: S) h Q ↔ WP 182 0 3 [a0, a1, a2, a3, vI x, a5, a6] S h Q := wp_istore rfl rfl rfl
theorem s182_3 : WP 182 0 3 L S h Q ↔ WP 182 0 4 L (vI 0 :: S) h Q := wp_pl rfl rfl rfl
theorem s182_4 : WP 182 0 4 [a0, a1, a2, a3, a4, a5, a6] (vI x :: S) h Q ↔ WP 182 0 6 [a0, a1, a2, a3, a4, vI x, a6] S h Q := wp_istore rfl rfl rfl
theorem s182_6 : WP 182 0 6 [a0, a1, a2, a3, a4, vI x, a6] S h Q ↔ WP 182 0 8 [a0, a1, a2, a3, a4, vI x, a6] (vI x :: S) h Q := wp_iload rfl rfl
theorem s182_8 : WP 182 0 8 [a0, a1, vI x, a3, a4, a5, a6] S h Q ↔ WP 182 0 9 [a0, a1, vI x, a3, a4, a5, a6] (vI x :: S) h Q := wp_iload rfl rfl
theorem s182_9 : WP 182 0 9 L (vI y :: vI x :: S) h Q ↔ zif (x < y) (WP 182 0 12 L S h Q) (WP 182 0 62 L S h Q) := wp_bN zc_lt rfl rfl rfl
theorem s182_12 : WP 182 0 12 L S h Q ↔ WP 182 0 13 L (vI 0 :: S) h Q := wp_pl rfl rfl rfl
theorem s182_13 : WP 182 0 13 [a0, a1, a2, a3, a4, a5, a6] (vI x :: S) h Q ↔ WP 182 0 15 [a0, a1, a2, a3, a4, a5, vI x] S h Q := wp_istore rfl rfl rfl
theorem s182_15 : WP 182 0 15 [a0, a1, a2, a3, a4, a5, vI x] S h Q ↔ WP 182 0 17 [a0, a1, a2, a3, a4, a5, vI x] (vI x :: S) h Q := wp_iload rfl rfl
theorem s182_17 : WP 182 0 17 [vA r, a1, a2, a3, a4, a5, a6] S h Q ↔ WP 182 0 18 [vA r, a1, a2, a3, a4, a5, a6] (vA r :: S) h Q := wp_aload rfl rfl
theorem s182_18 : WP 182 0 18 [a0, a1, a2, vI x, a4, a5, a6] S h Q ↔ WP 182 0 19 [a0, a1, a2, vI x, a4, a5, a6] (vI x :: S) h Q := wp_iload rfl rfl
theorem s182_19 : WP 182 0 19 [a0, vA r, a2, a3, a4, a5, a6] S h Q ↔ WP 182 0 20 [a0, vA r, a2, a3, a4, a5, a6] (vA r :: S) h Q := wp_aload rfl rfl
theorem s182_20 : WP 182 0 20 [a0, a1, a2, a3, a4, vI x, a6] S h Q ↔ WP 182 0 22 [a0, a1, a2, a3, a4, vI x, a6] (vI x :: S) h Q := wp_iload rfl rfl
theorem s182_22 : WP 182 0 22 L (vI x :: vA (some a) :: S) h Q ↔ (((hk h a).1 = 1 ∧ 0 ≤ x ∧ x < ((hk h a).2 : Int)) ∧ WP 182 0 23 L (hm h a x.toNat :: S) h Q) := wp_if rfl rfl rfl
theorem s182_23 : WP 182 0 23 L (vI x1 :: vI x0 :: vA (some a) :: S) h Q ↔ ((hk h a).1 = 110 ∧ (zw S ≤ 8 ∧ WP 210 0 0 [vA (some a), vI x0, vI x1] [] h (zret 182 0 23 26 L S Q))) := wp_V1 (c := 110) rfl rfl (fun _ => rfl) rfl rfl (zcan_of rfl rfl) rfl rfl rfl
theorem s182_26 : WP 182 0 26 L (vI y :: vI x :: S) h Q ↔ zif (x < y) (WP 182 0 29 L S h Q) (WP 182 0 56 L S h Q) := wp_bN zc_lt rfl rfl rfl
theorem s182_29 : WP 182 0 29 [vA r, a1, a2, a3, a4, a5, a6] S h Q ↔ WP 182 0 30 [vA r, a1, a2, a3, a4, a5, a6] (vA r :: S) h Q := wp_aload rfl rfl
theorem s182_30 : WP 182 0 30 L (vA (some a) :: S) h Q ↔ (zhas 71 (hk h a) = true ∧ WP 182 0 33 L (hm h a 71 :: S) h Q) := wp_if rfl rfl rfl
theorem s182_33 : WP 182 0 33 [a0, a1, a2, a3, vI x, a5, a6] S h Q ↔ WP 182 0 35 [a0, a1, a2, a3, vI x, a5, a6] (vI x :: S) h Q := wp_iload rfl rfl
theorem s182_35 : WP 182 0 35 [vA r, a1, a2, a3, a4, a5, a6] S h Q ↔ WP 182 0 36 [vA r, a1, a2, a3, a4, a5, a6] (vA r :: S) h Q := wp_aload rfl rfl
theorem s182_36 : WP 182 0 36 [a0, a1, a2, vI x, a4, a5, a6] S h Q ↔ WP 182 0 37 [a0, a1, a2, vI x, a4, a5, a6] (vI x :: S) h Q := wp_iload rfl rfl
theorem s182_37 : WP 182 0 37 [a0, vA r, a2, a3, a4, a5, a6] S h Q ↔ WP 182 0 38 [a0, vA r, a2, a3, a4, a5, a6] (vA r :: S) h Q := wp_aload rfl rfl
theorem s182_38 : WP 182 0 38 [a0, a1, a2, a3, a4, vI x, a6] S h Q ↔ WP 182 0 40 [a0, a1, a2, a3, a4, vI x, a6] (vI x :: S) h Q := wp_iload rfl rfl
theorem s182_40 : WP 182 0 40 L (vI x :: vA (some a) :: S) h Q ↔ (((hk h a).1 = 1 ∧ 0 ≤ x ∧ x < ((hk h a).2 : Int)) ∧ WP 182 0 41 L (hm h a x.toNat :: S) h Q) := wp_if rfl rfl rfl
theorem s182_41 : WP 182 0 41 [a0, a1, a2, a3, a4, a5, vI x] S h Q ↔ WP 182 0 43 [a0, a1, a2, a3, a4, a5, vI x] (vI x :: S) h Q := wp_iload rfl rfl
theorem s182_43 : WP 182 0 43 L (vI x2 :: vI x1 :: vI x0 :: vA (some a) :: S) h Q ↔ ((hk h a).1 = 110 ∧ (zw S ≤ 8 ∧ WP 180 0 0 [vA (some a), vI x0, vI x1, vI x2] [] h (zret 182 0 43 46 L S Q))) := wp_V1 (c := 110) rfl rfl (fun _ => rfl) rfl rfl (zcan_of rfl rfl) rfl rfl rfl
theorem s182_46 : WP 182 0 46 L (vI y :: vI x :: vA (some a) :: S) h Q ↔ (((hk h a).1 = 1 ∧ (0 ≤ x ∧ x < ((hk h a).2 : Int)) ∧ zNC ≤ a) ∧ WP 182 0 47 L S (hput h a x.toNat (vI y)) Q) := wp_if rfl rfl rfl
theorem s182_47 : WP 182 0 47 [a0, a1, a2, a3, vI x, a5, a6] S h Q ↔ WP 182 0 50 [a0, a1, a2, a3, vI (wr (x + 1)), a5, a6] S h Q := wp_iinc rfl rfl rfl
theorem s182_50 : WP 182 0 50 [a0, a1, a2, a3, a4, a5, vI x] S h Q ↔ WP 182 0 53 [a0, a1, a2, a3, a4, a5, vI (wr (x + 1))] S h Q := wp_iinc rfl rfl rfl
theorem s182_53 : WP 182 0 53 L S h Q ↔ WP 182 0 15 L S h Q := wp_pl rfl rfl rfl
theorem s182_56 : WP 182 0 56 [a0, a1, a2, a3, a4, vI x, a6] S h Q ↔ WP 182 0 59 [a0, a1, a2, a3, a4, vI (wr (x + 1)), a6] S h Q := wp_iinc rfl rfl rfl
theorem s182_59 : WP 182 0 59 L S h Q ↔ WP 182 0 6 L S h Q := wp_pl rfl rfl rfl
theorem s182_62 : WP 182 0 62 [a0, a1, a2, a3, vI x, a5, a6] S h Q ↔ WP 182 0 64 [a0, a1, a2, a3, vI x, a5, a6] (vI x :: S) h Q := wp_iload rfl rfl
theorem s182_64 : WP 182 0 64 L [vI x] h Q ↔ Q (.inl (some (vI x))) h := wp_iret0 rfl rfl
/-! RepeatFreeModel.in(III)Z -/
theorem s183_0 : WP 183 0 0 [vI x, a1, a2] S h Q ↔ WP 183 0 1 [vI x, a1, a2] (vI x :: S) h Q := wp_iload rfl rfl
theorem s183_1 : WP 183 0 1 [a0, vI x, a2] S h Q ↔ WP 183 0 2 [a0, vI x, a2] (vI x :: S) h Q := wp_iload rfl rfl
theorem s183_2 : WP 183 0 2 L (vI y :: vI x :: S) h Q ↔ zif (x < y) (WP 183 0 14 L S h Q) (WP 183 0 5 L S h Q) := wp_bE zc_lt rfl rfl rfl
theorem s183_5 : WP 183 0 5 [vI x, a1, a2] S h Q ↔ WP 183 0 6 [vI x, a1, a2] (vI x :: S) h Q := wp_iload rfl rfl
theorem s183_6 : WP 183 0 6 [a0, a1, vI x] S h Q ↔ WP 183 0 7 [a0, a1, vI x] (vI x :: S) h Q := wp_iload rfl rfl
theorem s183_7 : WP 183 0 7 L (vI y :: vI x :: S) h Q ↔ zif (y < x) (WP 183 0 14 L S h Q) (WP 183 0 10 L S h Q) := wp_bE zc_gt rfl rfl rfl
theorem s183_10 : WP 183 0 10 L S h Q ↔ WP 183 0 11 L (vI 1 :: S) h Q := wp_pl rfl rfl rfl
theorem s183_11 : WP 183 0 11 L S h Q ↔ WP 183 0 15 L S h Q := wp_pl rfl rfl rfl
theorem s183_14 : WP 183 0 14 L S h Q ↔ WP 183 0 15 L (vI 0 :: S) h Q := wp_pl rfl rfl rfl
theorem s183_15 : WP 183 0 15 L [vI x] h Q ↔ ((x = 0 ∨ x = 1) ∧ Q (.inl (some (vI x))) h) := wp_iret rfl rfl
/-! RepeatFreeModel.<init>()V -/
theorem s184_0 : WP 184 0 0 [vA r] S h Q ↔ WP 184 0 1 [vA r] (vA r :: S) h Q := wp_aload rfl rfl
theorem s184_1 : WP 184 0 1 L (vA (some a) :: S) h Q ↔ ((zw S ≤ 8 ∧ zNC ≤ a) ∧ WP 184 0 4 L S h Q) := wp_if rfl rfl rfl
theorem s184_4 : WP 184 0 4 [vA r] S h Q ↔ WP 184 0 5 [vA r] (vA r :: S) h Q := wp_aload rfl rfl
theorem s184_5 : WP 184 0 5 L S h Q ↔ WP 184 0 8 L (vI 400 :: S) h Q := wp_pl rfl rfl rfl
theorem s184_8 : WP 184 0 8 L (vI x :: S) h Q ↔ ((0 ≤ x ∧ x ≤ 1000000) ∧ WP 184 0 10 L (vA (some (hn h)) :: S) (hnew h (2, x.toNat) x.toNat (fun _ => vI 0)) Q) := wp_if rfl rfl rfl
theorem s184_10 : WP 184 0 10 L (vA r :: vA (some a) :: S) h Q ↔ ((zNC ≤ a ∧ zhas 46 (hk h a) = true) ∧ WP 184 0 13 L S (hput h a 46 (vA r)) Q) := wp_put3 rfl rfl
theorem s184_13 : WP 184 0 13 [vA r] S h Q ↔ WP 184 0 14 [vA r] (vA r :: S) h Q := wp_aload rfl rfl
theorem s184_14 : WP 184 0 14 L S h Q ↔ WP 184 0 15 L (vI 5 :: S) h Q := wp_pl rfl rfl rfl
theorem s184_15 : WP 184 0 15 L (vI x :: S) h Q ↔ ((0 ≤ x ∧ x ≤ 1000000) ∧ WP 184 0 17 L (vA (some (hn h)) :: S) (hnew h (1, x.toNat) x.toNat (fun _ => vI 0)) Q) := wp_if rfl rfl rfl
theorem s184_17 : WP 184 0 17 L (vA r :: vA (some a) :: S) h Q ↔ ((zNC ≤ a ∧ zhas 48 (hk h a) = true) ∧ WP 184 0 20 L S (hput h a 48 (vA r)) Q) := wp_put3 rfl rfl
theorem s184_20 : WP 184 0 20 [vA r] S h Q ↔ WP 184 0 21 [vA r] (vA r :: S) h Q := wp_aload rfl rfl
theorem s184_21 : WP 184 0 21 L S h Q ↔ WP 184 0 22 L (vI (-1) :: S) h Q := wp_pl rfl rfl rfl
theorem s184_22 : WP 184 0 22 L (vI x :: vA (some a) :: S) h Q ↔ ((zNC ≤ a ∧ zhas 53 (hk h a) = true) ∧ WP 184 0 25 L S (hput h a 53 (vI x)) Q) := wp_put0 rfl rfl
theorem s184_25 : WP 184 0 25 [vA r] S h Q ↔ WP 184 0 26 [vA r] (vA r :: S) h Q := wp_aload rfl rfl
theorem s184_26 : WP 184 0 26 L S h Q ↔ WP 184 0 29 L (vI 198 :: S) h Q := wp_pl rfl rfl rfl
theorem s184_29 : WP 184 0 29 L (vI x :: S) h Q ↔ ((0 ≤ x ∧ x ≤ 1000000) ∧ WP 184 0 31 L (vA (some (hn h)) :: S) (hnew h (1, x.toNat) x.toNat (fun _ => vI 0)) Q) := wp_if rfl rfl rfl
theorem s184_31 : WP 184 0 31 L (vA r :: vA (some a) :: S) h Q ↔ ((zNC ≤ a ∧ zhas 54 (hk h a) = true) ∧ WP 184 0 34 L S (hput h a 54 (vA r)) Q) := wp_put3 rfl rfl
theorem s184_34 : WP 184 0 34 [vA r] S h Q ↔ WP 184 0 35 [vA r] (vA r :: S) h Q := wp_aload rfl rfl
theorem s184_35 : WP 184 0 35 L S h Q ↔ WP 184 0 38 L (vI 198 :: S) h Q := wp_pl rfl rfl rfl
theorem s184_38 : WP 184 0 38 L (vI x :: S) h Q ↔ ((0 ≤ x ∧ x ≤ 1000000) ∧ WP 184 0 40 L (vA (some (hn h)) :: S) (hnew h (1, x.toNat) x.toNat (fun _ => vI 0)) Q) := wp_if rfl rfl rfl
theorem s184_40 : WP 184 0 40 L (vA r :: vA (some a) :: S) h Q ↔ ((zNC ≤ a ∧ zhas 55 (hk h a) = true) ∧ WP 184 0 43 L S (hput h a 55 (vA r)) Q) := wp_put3 rfl rfl
theorem s184_43 : WP 184 0 43 [vA r] S h Q ↔ WP 184 0 44 [vA r] (vA r :: S) h Q := wp_aload rfl rfl
theorem s184_44 : WP 184 0 44 L S h Q ↔ WP 184 0 46 L (vI 64 :: S) h Q := wp_pl rfl rfl rfl
theorem s184_46 : WP 184 0 46 L (vI x :: S) h Q ↔ ((0 ≤ x ∧ x ≤ 1000000) ∧ WP 184 0 48 L (vA (some (hn h)) :: S) (hnew h (1, x.toNat) x.toNat (fun _ => vI 0)) Q) := wp_if rfl rfl rfl
theorem s184_48 : WP 184 0 48 L (vA r :: vA (some a) :: S) h Q ↔ ((zNC ≤ a ∧ zhas 57 (hk h a) = true) ∧ WP 184 0 51 L S (hput h a 57 (vA r)) Q) := wp_put3 rfl rfl
theorem s184_51 : WP 184 0 51 [vA r] S h Q ↔ WP 184 0 52 [vA r] (vA r :: S) h Q := wp_aload rfl rfl
theorem s184_52 : WP 184 0 52 L S h Q ↔ WP 184 0 54 L (vI 64 :: S) h Q := wp_pl rfl rfl rfl
theorem s184_54 : WP 184 0 54 L (vI x :: S) h Q ↔ ((0 ≤ x ∧ x ≤ 1000000) ∧ WP 184 0 56 L (vA (some (hn h)) :: S) (hnew h (1, x.toNat) x.toNat (fun _ => vI 0)) Q) := wp_if rfl rfl rfl
theorem s184_56 : WP 184 0 56 L (vA r :: vA (some a) :: S) h Q ↔ ((zNC ≤ a ∧ zhas 58 (hk h a) = true) ∧ WP 184 0 59 L S (hput h a 58 (vA r)) Q) := wp_put3 rfl rfl
theorem s184_59 : WP 184 0 59 [vA r] S h Q ↔ WP 184 0 60 [vA r] (vA r :: S) h Q := wp_aload rfl rfl
theorem s184_60 : WP 184 0 60 L S h Q ↔ WP 184 0 63 L (vI 650 :: S) h Q := wp_pl rfl rfl rfl
theorem s184_63 : WP 184 0 63 L (vI x :: S) h Q ↔ ((0 ≤ x ∧ x ≤ 1000000) ∧ WP 184 0 65 L (vA (some (hn h)) :: S) (hnew h (1, x.toNat) x.toNat (fun _ => vI 0)) Q) := wp_if rfl rfl rfl
theorem s184_65 : WP 184 0 65 L (vA r :: vA (some a) :: S) h Q ↔ ((zNC ≤ a ∧ zhas 61 (hk h a) = true) ∧ WP 184 0 68 L S (hput h a 61 (vA r)) Q) := wp_put3 rfl rfl
theorem s184_68 : WP 184 0 68 [vA r] S h Q ↔ WP 184 0 69 [vA r] (vA r :: S) h Q := wp_aload rfl rfl
theorem s184_69 : WP 184 0 69 L S h Q ↔ WP 184 0 70 L (vI 3 :: S) h Q := wp_pl rfl rfl rfl
theorem s184_70 : WP 184 0 70 L (vI x :: S) h Q ↔ ((0 ≤ x ∧ x ≤ 1000000) ∧ WP 184 0 72 L (vA (some (hn h)) :: S) (hnew h (1, x.toNat) x.toNat (fun _ => vI 0)) Q) := wp_if rfl rfl rfl
theorem s184_72 : WP 184 0 72 L (vA r :: vA (some a) :: S) h Q ↔ ((zNC ≤ a ∧ zhas 62 (hk h a) = true) ∧ WP 184 0 75 L S (hput h a 62 (vA r)) Q) := wp_put3 rfl rfl
theorem s184_75 : WP 184 0 75 [vA r] S h Q ↔ WP 184 0 76 [vA r] (vA r :: S) h Q := wp_aload rfl rfl
theorem s184_76 : WP 184 0 76 L S h Q ↔ WP 184 0 77 L (vI 3 :: S) h Q := wp_pl rfl rfl rfl
theorem s184_77 : WP 184 0 77 L (vI x :: S) h Q ↔ ((0 ≤ x ∧ x ≤ 1000000) ∧ WP 184 0 79 L (vA (some (hn h)) :: S) (hnew h (1, x.toNat) x.toNat (fun _ => vI 0)) Q) := wp_if rfl rfl rfl
theorem s184_79 : WP 184 0 79 L (vA r :: vA (some a) :: S) h Q ↔ ((zNC ≤ a ∧ zhas 63 (hk h a) = true) ∧ WP 184 0 82 L S (hput h a 63 (vA r)) Q) := wp_put3 rfl rfl
theorem s184_82 : WP 184 0 82 [vA r] S h Q ↔ WP 184 0 83 [vA r] (vA r :: S) h Q := wp_aload rfl rfl
theorem s184_83 : WP 184 0 83 L S h Q ↔ WP 184 0 85 L (vI 72 :: S) h Q := wp_pl rfl rfl rfl
theorem s184_85 : WP 184 0 85 L (vI x :: S) h Q ↔ ((0 ≤ x ∧ x ≤ 1000000) ∧ WP 184 0 87 L (vA (some (hn h)) :: S) (hnew h (1, x.toNat) x.toNat (fun _ => vI 0)) Q) := wp_if rfl rfl rfl
theorem s184_87 : WP 184 0 87 L (vA r :: vA (some a) :: S) h Q ↔ ((zNC ≤ a ∧ zhas 64 (hk h a) = true) ∧ WP 184 0 90 L S (hput h a 64 (vA r)) Q) := wp_put3 rfl rfl
theorem s184_90 : WP 184 0 90 [vA r] S h Q ↔ WP 184 0 91 [vA r] (vA r :: S) h Q := wp_aload rfl rfl
theorem s184_91 : WP 184 0 91 L S h Q ↔ WP 184 0 94 L (vI 384 :: S) h Q := wp_pl rfl rfl rfl
theorem s184_94 : WP 184 0 94 L (vI x :: S) h Q ↔ ((0 ≤ x ∧ x ≤ 1000000) ∧ WP 184 0 96 L (vA (some (hn h)) :: S) (hnew h (1, x.toNat) x.toNat (fun _ => vI 0)) Q) := wp_if rfl rfl rfl
theorem s184_96 : WP 184 0 96 L (vA r :: vA (some a) :: S) h Q ↔ ((zNC ≤ a ∧ zhas 71 (hk h a) = true) ∧ WP 184 0 99 L S (hput h a 71 (vA r)) Q) := wp_put3 rfl rfl
theorem s184_99 : WP 184 0 99 [vA r] S h Q ↔ WP 184 0 100 [vA r] (vA r :: S) h Q := wp_aload rfl rfl
theorem s184_100 : WP 184 0 100 L S h Q ↔ WP 184 0 103 L (vI 208 :: S) h Q := wp_pl rfl rfl rfl
theorem s184_103 : WP 184 0 103 L (vI x :: S) h Q ↔ ((0 ≤ x ∧ x ≤ 1000000) ∧ WP 184 0 105 L (vA (some (hn h)) :: S) (hnew h (4, x.toNat) x.toNat (fun _ => vL 0)) Q) := wp_if rfl rfl rfl
theorem s184_105 : WP 184 0 105 L (vA r :: vA (some a) :: S) h Q ↔ ((zNC ≤ a ∧ zhas 72 (hk h a) = true) ∧ WP 184 0 108 L S (hput h a 72 (vA r)) Q) := wp_put3 rfl rfl
theorem s184_108 : WP 184 0 108 [vA r] S h Q ↔ WP 184 0 109 [vA r] (vA r :: S) h Q := wp_aload rfl rfl
theorem s184_109 : WP 184 0 109 L S h Q ↔ WP 184 0 111 L (vI 65 :: S) h Q := wp_pl rfl rfl rfl
theorem s184_111 : WP 184 0 111 L (vI x :: S) h Q ↔ ((0 ≤ x ∧ x ≤ 1000000) ∧ WP 184 0 113 L (vA (some (hn h)) :: S) (hnew h (4, x.toNat) x.toNat (fun _ => vL 0)) Q) := wp_if rfl rfl rfl
theorem s184_113 : WP 184 0 113 L (vA r :: vA (some a) :: S) h Q ↔ ((zNC ≤ a ∧ zhas 73 (hk h a) = true) ∧ WP 184 0 116 L S (hput h a 73 (vA r)) Q) := wp_put3 rfl rfl
theorem s184_116 : WP 184 0 116 [vA r] S h Q ↔ WP 184 0 117 [vA r] (vA r :: S) h Q := wp_aload rfl rfl
theorem s184_117 : WP 184 0 117 L S h Q ↔ WP 184 0 119 L (vI 24 :: S) h Q := wp_pl rfl rfl rfl
theorem s184_119 : WP 184 0 119 L (vI x :: S) h Q ↔ ((0 ≤ x ∧ x ≤ 1000000) ∧ WP 184 0 121 L (vA (some (hn h)) :: S) (hnew h (3, x.toNat) x.toNat (fun _ => vI 0)) Q) := wp_if rfl rfl rfl
theorem s184_121 : WP 184 0 121 L (vA r :: vA (some a) :: S) h Q ↔ ((zNC ≤ a ∧ zhas 74 (hk h a) = true) ∧ WP 184 0 124 L S (hput h a 74 (vA r)) Q) := wp_put3 rfl rfl
theorem s184_124 : WP 184 0 124 [vA r] S h Q ↔ WP 184 0 125 [vA r] (vA r :: S) h Q := wp_aload rfl rfl
theorem s184_125 : WP 184 0 125 L S h Q ↔ WP 184 0 127 L (vI 6 :: S) h Q := wp_pl rfl rfl rfl
theorem s184_127 : WP 184 0 127 L (vI x :: S) h Q ↔ ((0 ≤ x ∧ x ≤ 1000000) ∧ WP 184 0 129 L (vA (some (hn h)) :: S) (hnew h (1, x.toNat) x.toNat (fun _ => vI 0)) Q) := wp_if rfl rfl rfl
theorem s184_129 : WP 184 0 129 L (vA r :: vA (some a) :: S) h Q ↔ ((zNC ≤ a ∧ zhas 76 (hk h a) = true) ∧ WP 184 0 132 L S (hput h a 76 (vA r)) Q) := wp_put3 rfl rfl
theorem s184_132 : WP 184 0 132 [vA r] S h Q ↔ WP 184 0 133 [vA r] (vA r :: S) h Q := wp_aload rfl rfl
theorem s184_133 : WP 184 0 133 L (vA (some a) :: S) h Q ↔ (zhas 54 (hk h a) = true ∧ WP 184 0 136 L (hm h a 54 :: S) h Q) := wp_if rfl rfl rfl
theorem s184_136 : WP 184 0 136 L S h Q ↔ WP 184 0 137 L (vI 0 :: S) h Q := wp_pl rfl rfl rfl
theorem s184_137 : WP 184 0 137 L S h Q ↔ WP 184 0 138 L (vI 2 :: S) h Q := wp_pl rfl rfl rfl
theorem s184_138 : WP 184 0 138 L (vI y :: vI x :: vA (some a) :: S) h Q ↔ (((hk h a).1 = 1 ∧ (0 ≤ x ∧ x < ((hk h a).2 : Int)) ∧ zNC ≤ a) ∧ WP 184 0 139 L S (hput h a x.toNat (vI y)) Q) := wp_if rfl rfl rfl
theorem s184_139 : WP 184 0 139 L [] h Q ↔ Q (.inl none) h := wp_ret rfl
/-! RepeatFreeModel.isAheadOf(I)Z -/
theorem s185_0 : WP 185 0 0 L S h Q ↔ WP 185 0 1 L (vI 0 :: S) h Q := wp_pl rfl rfl rfl
theorem s185_1 : WP 185 0 1 [a0, a1, a2] (vI x :: S) h Q ↔ WP 185 0 2 [a0, a1, vI x] S h Q := wp_istore rfl rfl rfl
theorem s185_2 : WP 185 0 2 [a0, a1, vI x] S h Q ↔ WP 185 0 3 [a0, a1, vI x] (vI x :: S) h Q := wp_iload rfl rfl
theorem s185_3 : WP 185 0 3 [a0, vI x, a2] S h Q ↔ WP 185 0 4 [a0, vI x, a2] (vI x :: S) h Q := wp_iload rfl rfl
theorem s185_4 : WP 185 0 4 L (vI y :: vI x :: S) h Q ↔ zif (x < y) (WP 185 0 7 L S h Q) (WP 185 0 28 L S h Q) := wp_bN zc_lt rfl rfl rfl
theorem s185_7 : WP 185 0 7 [vA r, a1, a2] S h Q ↔ WP 185 0 8 [vA r, a1, a2] (vA r :: S) h Q := wp_aload rfl rfl
theorem s185_8 : WP 185 0 8 L (vA (some a) :: S) h Q ↔ (zhas 64 (hk h a) = true ∧ WP 185 0 11 L (hm h a 64 :: S) h Q) := wp_if rfl rfl rfl
theorem s185_11 : WP 185 0 11 [a0, a1, vI x] S h Q ↔ WP 185 0 12 [a0, a1, vI x] (vI x :: S) h Q := wp_iload rfl rfl
theorem s185_12 : WP 185 0 12 L (vI x :: vA (some a) :: S) h Q ↔ (((hk h a).1 = 1 ∧ 0 ≤ x ∧ x < ((hk h a).2 : Int)) ∧ WP 185 0 13 L (hm h a x.toNat :: S) h Q) := wp_if rfl rfl rfl
theorem s185_13 : WP 185 0 13 [vA r, a1, a2] S h Q ↔ WP 185 0 14 [vA r, a1, a2] (vA r :: S) h Q := wp_aload rfl rfl
theorem s185_14 : WP 185 0 14 L (vA (some a) :: S) h Q ↔ (zhas 57 (hk h a) = true ∧ WP 185 0 17 L (hm h a 57 :: S) h Q) := wp_if rfl rfl rfl
theorem s185_17 : WP 185 0 17 [a0, a1, vI x] S h Q ↔ WP 185 0 18 [a0, a1, vI x] (vI x :: S) h Q := wp_iload rfl rfl
theorem s185_18 : WP 185 0 18 L (vI x :: vA (some a) :: S) h Q ↔ (((hk h a).1 = 1 ∧ 0 ≤ x ∧ x < ((hk h a).2 : Int)) ∧ WP 185 0 19 L (hm h a x.toNat :: S) h Q) := wp_if rfl rfl rfl
theorem s185_19 : WP 185 0 19 L (vI y :: vI x :: S) h Q ↔ zif (x = y) (WP 185 0 22 L S h Q) (WP 185 0 28 L S h Q) := wp_bN zc_eq rfl rfl rfl
theorem s185_22 : WP 185 0 22 [a0, a1, vI x] S h Q ↔ WP 185 0 25 [a0, a1, vI (wr (x + 1))] S h Q := wp_iinc rfl rfl rfl
theorem s185_25 : WP 185 0 25 L S h Q ↔ WP 185 0 2 L S h Q := wp_pl rfl rfl rfl
theorem s185_28 : WP 185 0 28 [a0, a1, vI x] S h Q ↔ WP 185 0 29 [a0, a1, vI x] (vI x :: S) h Q := wp_iload rfl rfl
theorem s185_29 : WP 185 0 29 [a0, vI x, a2] S h Q ↔ WP 185 0 30 [a0, vI x, a2] (vI x :: S) h Q := wp_iload rfl rfl
theorem s185_30 : WP 185 0 30 L (vI y :: vI x :: S) h Q ↔ zif (x < y) (WP 185 0 33 L S h Q) (WP 185 0 52 L S h Q) := wp_bN zc_lt rfl rfl rfl
theorem s185_33 : WP 185 0 33 [vA r, a1, a2] S h Q ↔ WP 185 0 34 [vA r, a1, a2] (vA r :: S) h Q := wp_aload rfl rfl
theorem s185_34 : WP 185 0 34 L (vA (some a) :: S) h Q ↔ (zhas 64 (hk h a) = true ∧ WP 185 0 37 L (hm h a 64 :: S) h Q) := wp_if rfl rfl rfl
theorem s185_37 : WP 185 0 37 [a0, a1, vI x] S h Q ↔ WP 185 0 38 [a0, a1, vI x] (vI x :: S) h Q := wp_iload rfl rfl
theorem s185_38 : WP 185 0 38 L (vI x :: vA (some a) :: S) h Q ↔ (((hk h a).1 = 1 ∧ 0 ≤ x ∧ x < ((hk h a).2 : Int)) ∧ WP 185 0 39 L (hm h a x.toNat :: S) h Q) := wp_if rfl rfl rfl
theorem s185_39 : WP 185 0 39 [vA r, a1, a2] S h Q ↔ WP 185 0 40 [vA r, a1, a2] (vA r :: S) h Q := wp_aload rfl rfl
theorem s185_40 : WP 185 0 40 L (vA (some a) :: S) h Q ↔ (zhas 57 (hk h a) = true ∧ WP 185 0 43 L (hm h a 57 :: S) h Q) := wp_if rfl rfl rfl
theorem s185_43 : WP 185 0 43 [a0, a1, vI x] S h Q ↔ WP 185 0 44 [a0, a1, vI x] (vI x :: S) h Q := wp_iload rfl rfl
theorem s185_44 : WP 185 0 44 L (vI x :: vA (some a) :: S) h Q ↔ (((hk h a).1 = 1 ∧ 0 ≤ x ∧ x < ((hk h a).2 : Int)) ∧ WP 185 0 45 L (hm h a x.toNat :: S) h Q) := wp_if rfl rfl rfl
theorem s185_45 : WP 185 0 45 L (vI y :: vI x :: S) h Q ↔ zif (x < y) (WP 185 0 48 L S h Q) (WP 185 0 52 L S h Q) := wp_bN zc_lt rfl rfl rfl
theorem s185_48 : WP 185 0 48 L S h Q ↔ WP 185 0 49 L (vI 1 :: S) h Q := wp_pl rfl rfl rfl
theorem s185_49 : WP 185 0 49 L S h Q ↔ WP 185 0 53 L S h Q := wp_pl rfl rfl rfl
theorem s185_52 : WP 185 0 52 L S h Q ↔ WP 185 0 53 L (vI 0 :: S) h Q := wp_pl rfl rfl rfl
theorem s185_53 : WP 185 0 53 L [vI x] h Q ↔ ((x = 0 ∨ x = 1) ∧ Q (.inl (some (vI x))) h) := wp_iret rfl rfl
/-! RepeatFreeModel.isAt(II)Z -/
theorem s186_0 : WP 186 0 0 [vA r, a1, a2] S h Q ↔ WP 186 0 1 [vA r, a1, a2] (vA r :: S) h Q := wp_aload rfl rfl
theorem s186_1 : WP 186 0 1 L (vA (some a) :: S) h Q ↔ (zhas 49 (hk h a) = true ∧ WP 186 0 4 L (hm h a 49 :: S) h Q) := wp_if rfl rfl rfl
theorem s186_4 : WP 186 0 4 [vA r, a1, a2] S h Q ↔ WP 186 0 5 [vA r, a1, a2] (vA r :: S) h Q := wp_aload rfl rfl
theorem s186_5 : WP 186 0 5 L (vA (some a) :: S) h Q ↔ (zhas 51 (hk h a) = true ∧ WP 186 0 8 L (hm h a 51 :: S) h Q) := wp_if rfl rfl rfl
theorem s186_8 : WP 186 0 8 L (vI y :: vI x :: S) h Q ↔ zif (x < y) (WP 186 0 11 L S h Q) (WP 186 0 41 L S h Q) := wp_bN zc_lt rfl rfl rfl
theorem s186_11 : WP 186 0 11 [vA r, a1, a2] S h Q ↔ WP 186 0 12 [vA r, a1, a2] (vA r :: S) h Q := wp_aload rfl rfl
theorem s186_12 : WP 186 0 12 L (vA (some a) :: S) h Q ↔ (zhas 46 (hk h a) = true ∧ WP 186 0 15 L (hm h a 46 :: S) h Q) := wp_if rfl rfl rfl
theorem s186_15 : WP 186 0 15 [vA r, a1, a2] S h Q ↔ WP 186 0 16 [vA r, a1, a2] (vA r :: S) h Q := wp_aload rfl rfl
theorem s186_16 : WP 186 0 16 L (vA (some a) :: S) h Q ↔ (zhas 49 (hk h a) = true ∧ WP 186 0 19 L (hm h a 49 :: S) h Q) := wp_if rfl rfl rfl
theorem s186_19 : WP 186 0 19 L (vI x :: vA (some a) :: S) h Q ↔ ((((hk h a).1 = 2 ∨ (hk h a).1 = 3) ∧ 0 ≤ x ∧ x < ((hk h a).2 : Int)) ∧ WP 186 0 20 L (hm h a x.toNat :: S) h Q) := wp_if rfl rfl rfl
theorem s186_20 : WP 186 0 20 [a0, vI x, a2] S h Q ↔ WP 186 0 21 [a0, vI x, a2] (vI x :: S) h Q := wp_iload rfl rfl
theorem s186_21 : WP 186 0 21 L (vI y :: vI x :: S) h Q ↔ zif (x < y) (WP 186 0 41 L S h Q) (WP 186 0 24 L S h Q) := wp_bE zc_lt rfl rfl rfl
theorem s186_24 : WP 186 0 24 [vA r, a1, a2] S h Q ↔ WP 186 0 25 [vA r, a1, a2] (vA r :: S) h Q := wp_aload rfl rfl
theorem s186_25 : WP 186 0 25 L (vA (some a) :: S) h Q ↔ (zhas 46 (hk h a) = true ∧ WP 186 0 28 L (hm h a 46 :: S) h Q) := wp_if rfl rfl rfl
theorem s186_28 : WP 186 0 28 [vA r, a1, a2] S h Q ↔ WP 186 0 29 [vA r, a1, a2] (vA r :: S) h Q := wp_aload rfl rfl
theorem s186_29 : WP 186 0 29 L (vA (some a) :: S) h Q ↔ (zhas 49 (hk h a) = true ∧ WP 186 0 32 L (hm h a 49 :: S) h Q) := wp_if rfl rfl rfl
theorem s186_32 : WP 186 0 32 L (vI x :: vA (some a) :: S) h Q ↔ ((((hk h a).1 = 2 ∨ (hk h a).1 = 3) ∧ 0 ≤ x ∧ x < ((hk h a).2 : Int)) ∧ WP 186 0 33 L (hm h a x.toNat :: S) h Q) := wp_if rfl rfl rfl
theorem s186_33 : WP 186 0 33 [a0, a1, vI x] S h Q ↔ WP 186 0 34 [a0, a1, vI x] (vI x :: S) h Q := wp_iload rfl rfl
theorem s186_34 : WP 186 0 34 L (vI y :: vI x :: S) h Q ↔ zif (y < x) (WP 186 0 41 L S h Q) (WP 186 0 37 L S h Q) := wp_bE zc_gt rfl rfl rfl
theorem s186_37 : WP 186 0 37 L S h Q ↔ WP 186 0 38 L (vI 1 :: S) h Q := wp_pl rfl rfl rfl
theorem s186_38 : WP 186 0 38 L S h Q ↔ WP 186 0 42 L S h Q := wp_pl rfl rfl rfl
theorem s186_41 : WP 186 0 41 L S h Q ↔ WP 186 0 42 L (vI 0 :: S) h Q := wp_pl rfl rfl rfl
theorem s186_42 : WP 186 0 42 L [vI x] h Q ↔ ((x = 0 ∨ x = 1) ∧ Q (.inl (some (vI x))) h) := wp_iret rfl rfl
/-! RepeatFreeModel.isBeyond(II)Z -/
theorem s187_0 : WP 187 0 0 [a0, vI x, a2, a3] S h Q ↔ WP 187 0 1 [a0, vI x, a2, a3] (vI x :: S) h Q := wp_iload rfl rfl
theorem s187_1 : WP 187 0 1 [vA r, a1, a2, a3] S h Q ↔ WP 187 0 2 [vA r, a1, a2, a3] (vA r :: S) h Q := wp_aload rfl rfl
theorem s187_2 : WP 187 0 2 L (vA (some a) :: S) h Q ↔ (zhas 54 (hk h a) = true ∧ WP 187 0 5 L (hm h a 54 :: S) h Q) := wp_if rfl rfl rfl
theorem s187_5 : WP 187 0 5 L S h Q ↔ WP 187 0 6 L (vI 3 :: S) h Q := wp_pl rfl rfl rfl
theorem s187_6 : WP 187 0 6 L (vI x :: vA (some a) :: S) h Q ↔ (((hk h a).1 = 1 ∧ 0 ≤ x ∧ x < ((hk h a).2 : Int)) ∧ WP 187 0 7 L (hm h a x.toNat :: S) h Q) := wp_if rfl rfl rfl
theorem s187_7 : WP 187 0 7 L (vI y :: vI x :: S) h Q ↔ WP 187 0 8 L (vI (wr (x * y)) :: S) h Q := wp_pl rfl rfl rfl
theorem s187_8 : WP 187 0 8 [vA r, a1, a2, a3] S h Q ↔ WP 187 0 9 [vA r, a1, a2, a3] (vA r :: S) h Q := wp_aload rfl rfl
theorem s187_9 : WP 187 0 9 L (vA (some a) :: S) h Q ↔ (zhas 54 (hk h a) = true ∧ WP 187 0 12 L (hm h a 54 :: S) h Q) := wp_if rfl rfl rfl
theorem s187_12 : WP 187 0 12 L S h Q ↔ WP 187 0 13 L (vI 2 :: S) h Q := wp_pl rfl rfl rfl
theorem s187_13 : WP 187 0 13 L (vI x :: vA (some a) :: S) h Q ↔ (((hk h a).1 = 1 ∧ 0 ≤ x ∧ x < ((hk h a).2 : Int)) ∧ WP 187 0 14 L (hm h a x.toNat :: S) h Q) := wp_if rfl rfl rfl
theorem s187_14 : WP 187 0 14 [a0, a1, vI x, a3] S h Q ↔ WP 187 0 15 [a0, a1, vI x, a3] (vI x :: S) h Q := wp_iload rfl rfl
theorem s187_15 : WP 187 0 15 L (vI y :: vI x :: S) h Q ↔ WP 187 0 16 L (vI (wr (x * y)) :: S) h Q := wp_pl rfl rfl rfl
theorem s187_16 : WP 187 0 16 L (vI y :: vI x :: S) h Q ↔ WP 187 0 17 L (vI (wr (x - y)) :: S) h Q := wp_pl rfl rfl rfl
theorem s187_17 : WP 187 0 17 [a0, a1, a2, a3] (vI x :: S) h Q ↔ WP 187 0 18 [a0, a1, a2, vI x] S h Q := wp_istore rfl rfl rfl
theorem s187_18 : WP 187 0 18 [vA r, a1, a2, a3] S h Q ↔ WP 187 0 19 [vA r, a1, a2, a3] (vA r :: S) h Q := wp_aload rfl rfl
theorem s187_19 : WP 187 0 19 L (vA (some a) :: S) h Q ↔ (zhas 54 (hk h a) = true ∧ WP 187 0 22 L (hm h a 54 :: S) h Q) := wp_if rfl rfl rfl
theorem s187_22 : WP 187 0 22 L S h Q ↔ WP 187 0 23 L (vI 1 :: S) h Q := wp_pl rfl rfl rfl
theorem s187_23 : WP 187 0 23 L (vI x :: vA (some a) :: S) h Q ↔ (((hk h a).1 = 1 ∧ 0 ≤ x ∧ x < ((hk h a).2 : Int)) ∧ WP 187 0 24 L (hm h a x.toNat :: S) h Q) := wp_if rfl rfl rfl
theorem s187_24 : WP 187 0 24 L S h Q ↔ WP 187 0 25 L (vI 1 :: S) h Q := wp_pl rfl rfl rfl
theorem s187_25 : WP 187 0 25 L (vI y :: vI x :: S) h Q ↔ zif (x = y) (WP 187 0 28 L S h Q) (WP 187 0 40 L S h Q) := wp_bN zc_eq rfl rfl rfl
theorem s187_28 : WP 187 0 28 [a0, a1, a2, vI x] S h Q ↔ WP 187 0 29 [a0, a1, a2, vI x] (vI x :: S) h Q := wp_iload rfl rfl
theorem s187_29 : WP 187 0 29 L (vI x :: S) h Q ↔ zif (x < 0) (WP 187 0 36 L S h Q) (WP 187 0 32 L S h Q) := wp_bE zc_lt rfl rfl rfl
theorem s187_32 : WP 187 0 32 L S h Q ↔ WP 187 0 33 L (vI 1 :: S) h Q := wp_pl rfl rfl rfl
theorem s187_33 : WP 187 0 33 L S h Q ↔ WP 187 0 59 L S h Q := wp_pl rfl rfl rfl
theorem s187_36 : WP 187 0 36 L S h Q ↔ WP 187 0 37 L (vI 0 :: S) h Q := wp_pl rfl rfl rfl
theorem s187_37 : WP 187 0 37 L S h Q ↔ WP 187 0 59 L S h Q := wp_pl rfl rfl rfl
theorem s187_40 : WP 187 0 40 [vA r, a1, a2, a3] S h Q ↔ WP 187 0 41 [vA r, a1, a2, a3] (vA r :: S) h Q := wp_aload rfl rfl
theorem s187_41 : WP 187 0 41 L (vA (some a) :: S) h Q ↔ (zhas 54 (hk h a) = true ∧ WP 187 0 44 L (hm h a 54 :: S) h Q) := wp_if rfl rfl rfl
theorem s187_44 : WP 187 0 44 L S h Q ↔ WP 187 0 45 L (vI 1 :: S) h Q := wp_pl rfl rfl rfl
theorem s187_45 : WP 187 0 45 L (vI x :: vA (some a) :: S) h Q ↔ (((hk h a).1 = 1 ∧ 0 ≤ x ∧ x < ((hk h a).2 : Int)) ∧ WP 187 0 46 L (hm h a x.toNat :: S) h Q) := wp_if rfl rfl rfl
theorem s187_46 : WP 187 0 46 L S h Q ↔ WP 187 0 47 L (vI 2 :: S) h Q := wp_pl rfl rfl rfl
theorem s187_47 : WP 187 0 47 L (vI y :: vI x :: S) h Q ↔ zif (x = y) (WP 187 0 50 L S h Q) (WP 187 0 58 L S h Q) := wp_bN zc_eq rfl rfl rfl
theorem s187_50 : WP 187 0 50 [a0, a1, a2, vI x] S h Q ↔ WP 187 0 51 [a0, a1, a2, vI x] (vI x :: S) h Q := wp_iload rfl rfl
theorem s187_51 : WP 187 0 51 L (vI x :: S) h Q ↔ zif (0 < x) (WP 187 0 54 L S h Q) (WP 187 0 58 L S h Q) := wp_bN zc_gt rfl rfl rfl
theorem s187_54 : WP 187 0 54 L S h Q ↔ WP 187 0 55 L (vI 1 :: S) h Q := wp_pl rfl rfl rfl
theorem s187_55 : WP 187 0 55 L S h Q ↔ WP 187 0 59 L S h Q := wp_pl rfl rfl rfl
theorem s187_58 : WP 187 0 58 L S h Q ↔ WP 187 0 59 L (vI 0 :: S) h Q := wp_pl rfl rfl rfl
theorem s187_59 : WP 187 0 59 L [vI x] h Q ↔ ((x = 0 ∨ x = 1) ∧ Q (.inl (some (vI x))) h) := wp_iret rfl rfl
/-! RepeatFreeModel.isFree()Z -/
theorem s188_0 : WP 188 0 0 [vA r] S h Q ↔ WP 188 0 1 [vA r] (vA r :: S) h Q := wp_aload rfl rfl
theorem s188_1 : WP 188 0 1 [vA r] S h Q ↔ WP 188 0 2 [vA r] (vA r :: S) h Q := wp_aload rfl rfl
theorem s188_2 : WP 188 0 2 L (vA (some a) :: S) h Q ↔ (zhas 57 (hk h a) = true ∧ WP 188 0 5 L (hm h a 57 :: S) h Q) := wp_if rfl rfl rfl
theorem s188_5 : WP 188 0 5 [vA r] S h Q ↔ WP 188 0 6 [vA r] (vA r :: S) h Q := wp_aload rfl rfl
theorem s188_6 : WP 188 0 6 L (vA (some a) :: S) h Q ↔ (zhas 59 (hk h a) = true ∧ WP 188 0 9 L (hm h a 59 :: S) h Q) := wp_if rfl rfl rfl
theorem s188_9 : WP 188 0 9 L (vI x1 :: vA r0 :: vA (some a) :: S) h Q ↔ ((hk h a).1 = 110 ∧ (zw S ≤ 8 ∧ WP 169 0 0 [vA (some a), vA r0, vI x1, vJ] [] h (zret 188 0 9 12 L S Q))) := wp_V1 (c := 110) rfl rfl (fun _ => rfl) rfl rfl (zcan_of rfl rfl) rfl rfl rfl
theorem s188_12 : WP 188 0 12 [vA r] S h Q ↔ WP 188 0 13 [vA r] (vA r :: S) h Q := wp_aload rfl rfl
theorem s188_13 : WP 188 0 13 L (vA (some a) :: S) h Q ↔ (zhas 59 (hk h a) = true ∧ WP 188 0 16 L (hm h a 59 :: S) h Q) := wp_if rfl rfl rfl
theorem s188_16 : WP 188 0 16 L (vI y :: vI x :: S) h Q ↔ zif (x = y) (WP 188 0 19 L S h Q) (WP 188 0 23 L S h Q) := wp_bN zc_eq rfl rfl rfl
theorem s188_19 : WP 188 0 19 L S h Q ↔ WP 188 0 20 L (vI 1 :: S) h Q := wp_pl rfl rfl rfl
theorem s188_20 : WP 188 0 20 L S h Q ↔ WP 188 0 24 L S h Q := wp_pl rfl rfl rfl
theorem s188_23 : WP 188 0 23 L S h Q ↔ WP 188 0 24 L (vI 0 :: S) h Q := wp_pl rfl rfl rfl
theorem s188_24 : WP 188 0 24 L [vI x] h Q ↔ ((x = 0 ∨ x = 1) ∧ Q (.inl (some (vI x))) h) := wp_iret rfl rfl
/-! RepeatFreeModel.isLoose(III)Z -/
theorem s189_0 : WP 189 0 0 L S h Q ↔ WP 189 0 1 L (vI 0 :: S) h Q := wp_pl rfl rfl rfl
theorem s189_1 : WP 189 0 1 [a0, a1, a2, a3, a4, a5, a6] (vI x :: S) h Q ↔ WP 189 0 3 [a0, a1, a2, a3, vI x, a5, a6] S h Q := wp_istore rfl rfl rfl
theorem s189_3 : WP 189 0 3 [a0, a1, a2, a3, vI x, a5, a6] S h Q ↔ WP 189 0 5 [a0, a1, a2, a3, vI x, a5, a6] (vI x :: S) h Q := wp_iload rfl rfl
theorem s189_5 : WP 189 0 5 L S h Q ↔ WP 189 0 7 L (vI 6 :: S) h Q := wp_pl rfl rfl rfl
theorem s189_7 : WP 189 0 7 L (vI y :: vI x :: S) h Q ↔ zif (x < y) (WP 189 0 10 L S h Q) (WP 189 0 25 L S h Q) := wp_bN zc_lt rfl rfl rfl
theorem s189_10 : WP 189 0 10 [vA r, a1, a2, a3, a4, a5, a6] S h Q ↔ WP 189 0 11 [vA r, a1, a2, a3, a4, a5, a6] (vA r :: S) h Q := wp_aload rfl rfl
theorem s189_11 : WP 189 0 11 L (vA (some a) :: S) h Q ↔ (zhas 76 (hk h a) = true ∧ WP 189 0 14 L (hm h a 76 :: S) h Q) := wp_if rfl rfl rfl
theorem s189_14 : WP 189 0 14 [a0, a1, a2, a3, vI x, a5, a6] S h Q ↔ WP 189 0 16 [a0, a1, a2, a3, vI x, a5, a6] (vI x :: S) h Q := wp_iload rfl rfl
theorem s189_16 : WP 189 0 16 [a0, a1, a2, a3, vI x, a5, a6] S h Q ↔ WP 189 0 18 [a0, a1, a2, a3, vI x, a5, a6] (vI x :: S) h Q := wp_iload rfl rfl
theorem s189_18 : WP 189 0 18 L (vI y :: vI x :: vA (some a) :: S) h Q ↔ (((hk h a).1 = 1 ∧ (0 ≤ x ∧ x < ((hk h a).2 : Int)) ∧ zNC ≤ a) ∧ WP 189 0 19 L S (hput h a x.toNat (vI y)) Q) := wp_if rfl rfl rfl
theorem s189_19 : WP 189 0 19 [a0, a1, a2, a3, vI x, a5, a6] S h Q ↔ WP 189 0 22 [a0, a1, a2, a3, vI (wr (x + 1)), a5, a6] S h Q := wp_iinc rfl rfl rfl
theorem s189_22 : WP 189 0 22 L S h Q ↔ WP 189 0 3 L S h Q := wp_pl rfl rfl rfl
theorem s189_25 : WP 189 0 25 L S h Q ↔ WP 189 0 26 L (vI (-1) :: S) h Q := wp_pl rfl rfl rfl
theorem s189_26 : WP 189 0 26 [a0, a1, a2, a3, a4, a5, a6] (vI x :: S) h Q ↔ WP 189 0 28 [a0, a1, a2, a3, vI x, a5, a6] S h Q := wp_istore rfl rfl rfl
theorem s189_28 : WP 189 0 28 L S h Q ↔ WP 189 0 29 L (vI 0 :: S) h Q := wp_pl rfl rfl rfl
theorem s189_29 : WP 189 0 29 [a0, a1, a2, a3, a4, a5, a6] (vI x :: S) h Q ↔ WP 189 0 31 [a0, a1, a2, a3, a4, vI x, a6] S h Q := wp_istore rfl rfl rfl
theorem s189_31 : WP 189 0 31 [a0, a1, a2, a3, a4, vI x, a6] S h Q ↔ WP 189 0 33 [a0, a1, a2, a3, a4, vI x, a6] (vI x :: S) h Q := wp_iload rfl rfl
theorem s189_33 : WP 189 0 33 [vA r, a1, a2, a3, a4, a5, a6] S h Q ↔ WP 189 0 34 [vA r, a1, a2, a3, a4, a5, a6] (vA r :: S) h Q := wp_aload rfl rfl
theorem s189_34 : WP 189 0 34 L (vA (some a) :: S) h Q ↔ (zhas 54 (hk h a) = true ∧ WP 189 0 37 L (hm h a 54 :: S) h Q) := wp_if rfl rfl rfl
theorem s189_37 : WP 189 0 37 L S h Q ↔ WP 189 0 40 L (vI 166 :: S) h Q := wp_pl rfl rfl rfl
theorem s189_40 : WP 189 0 40 [a0, vI x, a2, a3, a4, a5, a6] S h Q ↔ WP 189 0 41 [a0, vI x, a2, a3, a4, a5, a6] (vI x :: S) h Q := wp_iload rfl rfl
theorem s189_41 : WP 189 0 41 L (vI y :: vI x :: S) h Q ↔ WP 189 0 42 L (vI (wr (x + y)) :: S) h Q := wp_pl rfl rfl rfl
theorem s189_42 : WP 189 0 42 L (vI x :: vA (some a) :: S) h Q ↔ (((hk h a).1 = 1 ∧ 0 ≤ x ∧ x < ((hk h a).2 : Int)) ∧ WP 189 0 43 L (hm h a x.toNat :: S) h Q) := wp_if rfl rfl rfl
theorem s189_43 : WP 189 0 43 L (vI y :: vI x :: S) h Q ↔ zif (x < y) (WP 189 0 46 L S h Q) (WP 189 0 103 L S h Q) := wp_bN zc_lt rfl rfl rfl
theorem s189_46 : WP 189 0 46 [vA r, a1, a2, a3, a4, a5, a6] S h Q ↔ WP 189 0 47 [vA r, a1, a2, a3, a4, a5, a6] (vA r :: S) h Q := wp_aload rfl rfl
theorem s189_47 : WP 189 0 47 [a0, vI x, a2, a3, a4, a5, a6] S h Q ↔ WP 189 0 48 [a0, vI x, a2, a3, a4, a5, a6] (vI x :: S) h Q := wp_iload rfl rfl
theorem s189_48 : WP 189 0 48 [a0, a1, a2, a3, a4, vI x, a6] S h Q ↔ WP 189 0 50 [a0, a1, a2, a3, a4, vI x, a6] (vI x :: S) h Q := wp_iload rfl rfl
theorem s189_50 : WP 189 0 50 L (vI x1 :: vI x0 :: vA (some a) :: S) h Q ↔ ((hk h a).1 = 110 ∧ (zw S ≤ 8 ∧ WP 202 0 0 [vA (some a), vI x0, vI x1] [] h (zret 189 0 50 53 L S Q))) := wp_V1 (c := 110) rfl rfl (fun _ => rfl) rfl rfl (zcan_of rfl rfl) rfl rfl rfl
theorem s189_53 : WP 189 0 53 [a0, a1, a2, a3, a4, a5, a6] (vI x :: S) h Q ↔ WP 189 0 55 [a0, a1, a2, a3, a4, a5, vI x] S h Q := wp_istore rfl rfl rfl
theorem s189_55 : WP 189 0 55 [a0, a1, vI x, a3, a4, a5, a6] S h Q ↔ WP 189 0 56 [a0, a1, vI x, a3, a4, a5, a6] (vI x :: S) h Q := wp_iload rfl rfl
theorem s189_56 : WP 189 0 56 [a0, a1, a2, a3, a4, a5, vI x] S h Q ↔ WP 189 0 58 [a0, a1, a2, a3, a4, a5, vI x] (vI x :: S) h Q := wp_iload rfl rfl
theorem s189_58 : WP 189 0 58 L (vI y :: vI x :: S) h Q ↔ WP 189 0 59 L (vI (zshr x y) :: S) h Q := wp_pl rfl rfl rfl
theorem s189_59 : WP 189 0 59 L S h Q ↔ WP 189 0 60 L (vI 1 :: S) h Q := wp_pl rfl rfl rfl
theorem s189_60 : WP 189 0 60 L (vI y :: vI x :: S) h Q ↔ WP 189 0 61 L (vI (zand x y) :: S) h Q := wp_pl rfl rfl rfl
theorem s189_61 : WP 189 0 61 L S h Q ↔ WP 189 0 62 L (vI 1 :: S) h Q := wp_pl rfl rfl rfl
theorem s189_62 : WP 189 0 62 L (vI y :: vI x :: S) h Q ↔ zif (x = y) (WP 189 0 65 L S h Q) (WP 189 0 68 L S h Q) := wp_bN zc_eq rfl rfl rfl
theorem s189_65 : WP 189 0 65 L S h Q ↔ WP 189 0 97 L S h Q := wp_pl rfl rfl rfl
theorem s189_68 : WP 189 0 68 [a0, a1, a2, a3, vI x, a5, a6] S h Q ↔ WP 189 0 70 [a0, a1, a2, a3, vI x, a5, a6] (vI x :: S) h Q := wp_iload rfl rfl
theorem s189_70 : WP 189 0 70 L S h Q ↔ WP 189 0 71 L (vI (-1) :: S) h Q := wp_pl rfl rfl rfl
theorem s189_71 : WP 189 0 71 L (vI y :: vI x :: S) h Q ↔ zif (x = y) (WP 189 0 93 L S h Q) (WP 189 0 74 L S h Q) := wp_bE zc_eq rfl rfl rfl
theorem s189_74 : WP 189 0 74 [vA r, a1, a2, a3, a4, a5, a6] S h Q ↔ WP 189 0 75 [vA r, a1, a2, a3, a4, a5, a6] (vA r :: S) h Q := wp_aload rfl rfl
theorem s189_75 : WP 189 0 75 L (vA (some a) :: S) h Q ↔ (zhas 76 (hk h a) = true ∧ WP 189 0 78 L (hm h a 76 :: S) h Q) := wp_if rfl rfl rfl
theorem s189_78 : WP 189 0 78 [vA r, a1, a2, a3, a4, a5, a6] S h Q ↔ WP 189 0 79 [vA r, a1, a2, a3, a4, a5, a6] (vA r :: S) h Q := wp_aload rfl rfl
theorem s189_79 : WP 189 0 79 [a0, a1, a2, a3, vI x, a5, a6] S h Q ↔ WP 189 0 81 [a0, a1, a2, a3, vI x, a5, a6] (vI x :: S) h Q := wp_iload rfl rfl
theorem s189_81 : WP 189 0 81 L (vI x0 :: vA (some a) :: S) h Q ↔ ((hk h a).1 = 110 ∧ (zw S ≤ 8 ∧ WP 156 0 0 [vA (some a), vI x0, vJ] [] h (zret 189 0 81 84 L S Q))) := wp_V1 (c := 110) rfl rfl (fun _ => rfl) rfl rfl (zcan_of rfl rfl) rfl rfl rfl
theorem s189_84 : WP 189 0 84 [vA r, a1, a2, a3, a4, a5, a6] S h Q ↔ WP 189 0 85 [vA r, a1, a2, a3, a4, a5, a6] (vA r :: S) h Q := wp_aload rfl rfl
theorem s189_85 : WP 189 0 85 L S h Q ↔ WP 189 0 86 L (vI 3 :: S) h Q := wp_pl rfl rfl rfl
theorem s189_86 : WP 189 0 86 [a0, a1, a2, a3, a4, a5, vI x] S h Q ↔ WP 189 0 88 [a0, a1, a2, a3, a4, a5, vI x] (vI x :: S) h Q := wp_iload rfl rfl
theorem s189_88 : WP 189 0 88 L (vI y :: vI x :: S) h Q ↔ WP 189 0 89 L (vI (wr (x + y)) :: S) h Q := wp_pl rfl rfl rfl
theorem s189_89 : WP 189 0 89 L (vI x0 :: vA (some a) :: S) h Q ↔ ((hk h a).1 = 110 ∧ (zw S ≤ 8 ∧ WP 156 0 0 [vA (some a), vI x0, vJ] [] h (zret 189 0 89 92 L S Q))) := wp_V1 (c := 110) rfl rfl (fun _ => rfl) rfl rfl (zcan_of rfl rfl) rfl rfl rfl
theorem s189_92 : WP 189 0 92 L (vI y :: vI x :: vA (some a) :: S) h Q ↔ (((hk h a).1 = 1 ∧ (0 ≤ x ∧ x < ((hk h a).2 : Int)) ∧ zNC ≤ a) ∧ WP 189 0 93 L S (hput h a x.toNat (vI y)) Q) := wp_if rfl rfl rfl
theorem s189_93 : WP 189 0 93 [a0, a1, a2, a3, a4, a5, vI x] S h Q ↔ WP 189 0 95 [a0, a1, a2, a3, a4, a5, vI x] (vI x :: S) h Q := wp_iload rfl rfl
theorem s189_95 : WP 189 0 95 [a0, a1, a2, a3, a4, a5, a6] (vI x :: S) h Q ↔ WP 189 0 97 [a0, a1, a2, a3, vI x, a5, a6] S h Q := wp_istore rfl rfl rfl
theorem s189_97 : WP 189 0 97 [a0, a1, a2, a3, a4, vI x, a6] S h Q ↔ WP 189 0 100 [a0, a1, a2, a3, a4, vI (wr (x + 1)), a6] S h Q := wp_iinc rfl rfl rfl
theorem s189_100 : WP 189 0 100 L S h Q ↔ WP 189 0 31 L S h Q := wp_pl rfl rfl rfl
theorem s189_103 : WP 189 0 103 L S h Q ↔ WP 189 0 104 L (vI 0 :: S) h Q := wp_pl rfl rfl rfl
theorem s189_104 : WP 189 0 104 [a0, a1, a2, a3, a4, a5, a6] (vI x :: S) h Q ↔ WP 189 0 106 [a0, a1, a2, a3, a4, vI x, a6] S h Q := wp_istore rfl rfl rfl
theorem s189_106 : WP 189 0 106 [a0, a1, a2, a3, a4, vI x, a6] S h Q ↔ WP 189 0 108 [a0, a1, a2, a3, a4, vI x, a6] (vI x :: S) h Q := wp_iload rfl rfl
theorem s189_108 : WP 189 0 108 L S h Q ↔ WP 189 0 109 L (vI 3 :: S) h Q := wp_pl rfl rfl rfl
theorem s189_109 : WP 189 0 109 L (vI y :: vI x :: S) h Q ↔ zif (x < y) (WP 189 0 112 L S h Q) (WP 189 0 172 L S h Q) := wp_bN zc_lt rfl rfl rfl
theorem s189_112 : WP 189 0 112 L S h Q ↔ WP 189 0 113 L (vI 0 :: S) h Q := wp_pl rfl rfl rfl
theorem s189_113 : WP 189 0 113 [a0, a1, a2, a3, a4, a5, a6] (vI x :: S) h Q ↔ WP 189 0 115 [a0, a1, a2, a3, a4, a5, vI x] S h Q := wp_istore rfl rfl rfl
theorem s189_115 : WP 189 0 115 [a0, a1, a2, a3, a4, a5, vI x] S h Q ↔ WP 189 0 117 [a0, a1, a2, a3, a4, a5, vI x] (vI x :: S) h Q := wp_iload rfl rfl
theorem s189_117 : WP 189 0 117 L S h Q ↔ WP 189 0 118 L (vI 3 :: S) h Q := wp_pl rfl rfl rfl
theorem s189_118 : WP 189 0 118 L (vI y :: vI x :: S) h Q ↔ zif (x < y) (WP 189 0 121 L S h Q) (WP 189 0 166 L S h Q) := wp_bN zc_lt rfl rfl rfl
theorem s189_121 : WP 189 0 121 [a0, a1, a2, vI x, a4, a5, a6] S h Q ↔ WP 189 0 122 [a0, a1, a2, vI x, a4, a5, a6] (vI x :: S) h Q := wp_iload rfl rfl
theorem s189_122 : WP 189 0 122 [a0, a1, a2, a3, a4, vI x, a6] S h Q ↔ WP 189 0 124 [a0, a1, a2, a3, a4, vI x, a6] (vI x :: S) h Q := wp_iload rfl rfl
theorem s189_124 : WP 189 0 124 L (vI y :: vI x :: S) h Q ↔ WP 189 0 125 L (vI (zshr x y) :: S) h Q := wp_pl rfl rfl rfl
theorem s189_125 : WP 189 0 125 L S h Q ↔ WP 189 0 126 L (vI 1 :: S) h Q := wp_pl rfl rfl rfl
theorem s189_126 : WP 189 0 126 L (vI y :: vI x :: S) h Q ↔ WP 189 0 127 L (vI (zand x y) :: S) h Q := wp_pl rfl rfl rfl
theorem s189_127 : WP 189 0 127 L S h Q ↔ WP 189 0 128 L (vI 1 :: S) h Q := wp_pl rfl rfl rfl
theorem s189_128 : WP 189 0 128 L (vI y :: vI x :: S) h Q ↔ zif (x = y) (WP 189 0 131 L S h Q) (WP 189 0 160 L S h Q) := wp_bN zc_eq rfl rfl rfl
theorem s189_131 : WP 189 0 131 [a0, a1, a2, vI x, a4, a5, a6] S h Q ↔ WP 189 0 132 [a0, a1, a2, vI x, a4, a5, a6] (vI x :: S) h Q := wp_iload rfl rfl
theorem s189_132 : WP 189 0 132 [a0, a1, a2, a3, a4, a5, vI x] S h Q ↔ WP 189 0 134 [a0, a1, a2, a3, a4, a5, vI x] (vI x :: S) h Q := wp_iload rfl rfl
theorem s189_134 : WP 189 0 134 L (vI y :: vI x :: S) h Q ↔ WP 189 0 135 L (vI (zshr x y) :: S) h Q := wp_pl rfl rfl rfl
theorem s189_135 : WP 189 0 135 L S h Q ↔ WP 189 0 136 L (vI 1 :: S) h Q := wp_pl rfl rfl rfl
theorem s189_136 : WP 189 0 136 L (vI y :: vI x :: S) h Q ↔ WP 189 0 137 L (vI (zand x y) :: S) h Q := wp_pl rfl rfl rfl
theorem s189_137 : WP 189 0 137 L S h Q ↔ WP 189 0 138 L (vI 1 :: S) h Q := wp_pl rfl rfl rfl
theorem s189_138 : WP 189 0 138 L (vI y :: vI x :: S) h Q ↔ zif (x = y) (WP 189 0 141 L S h Q) (WP 189 0 160 L S h Q) := wp_bN zc_eq rfl rfl rfl
theorem s189_141 : WP 189 0 141 [vA r, a1, a2, a3, a4, a5, a6] S h Q ↔ WP 189 0 142 [vA r, a1, a2, a3, a4, a5, a6] (vA r :: S) h Q := wp_aload rfl rfl
theorem s189_142 : WP 189 0 142 [a0, a1, a2, a3, a4, vI x, a6] S h Q ↔ WP 189 0 144 [a0, a1, a2, a3, a4, vI x, a6] (vI x :: S) h Q := wp_iload rfl rfl
theorem s189_144 : WP 189 0 144 L (vI x0 :: vA (some a) :: S) h Q ↔ ((hk h a).1 = 110 ∧ (zw S ≤ 8 ∧ WP 156 0 0 [vA (some a), vI x0, vJ] [] h (zret 189 0 144 147 L S Q))) := wp_V1 (c := 110) rfl rfl (fun _ => rfl) rfl rfl (zcan_of rfl rfl) rfl rfl rfl
theorem s189_147 : WP 189 0 147 [vA r, a1, a2, a3, a4, a5, a6] S h Q ↔ WP 189 0 148 [vA r, a1, a2, a3, a4, a5, a6] (vA r :: S) h Q := wp_aload rfl rfl
theorem s189_148 : WP 189 0 148 L S h Q ↔ WP 189 0 149 L (vI 3 :: S) h Q := wp_pl rfl rfl rfl
theorem s189_149 : WP 189 0 149 [a0, a1, a2, a3, a4, a5, vI x] S h Q ↔ WP 189 0 151 [a0, a1, a2, a3, a4, a5, vI x] (vI x :: S) h Q := wp_iload rfl rfl
theorem s189_151 : WP 189 0 151 L (vI y :: vI x :: S) h Q ↔ WP 189 0 152 L (vI (wr (x + y)) :: S) h Q := wp_pl rfl rfl rfl
theorem s189_152 : WP 189 0 152 L (vI x0 :: vA (some a) :: S) h Q ↔ ((hk h a).1 = 110 ∧ (zw S ≤ 8 ∧ WP 156 0 0 [vA (some a), vI x0, vJ] [] h (zret 189 0 152 155 L S Q))) := wp_V1 (c := 110) rfl rfl (fun _ => rfl) rfl rfl (zcan_of rfl rfl) rfl rfl rfl
theorem s189_155 : WP 189 0 155 L (vI y :: vI x :: S) h Q ↔ zif (x = y) (WP 189 0 158 L S h Q) (WP 189 0 160 L S h Q) := wp_bN zc_eq rfl rfl rfl
theorem s189_158 : WP 189 0 158 L S h Q ↔ WP 189 0 159 L (vI 0 :: S) h Q := wp_pl rfl rfl rfl
theorem s189_159 : WP 189 0 159 L [vI x] h Q ↔ ((x = 0 ∨ x = 1) ∧ Q (.inl (some (vI x))) h) := wp_iret rfl rfl
theorem s189_160 : WP 189 0 160 [a0, a1, a2, a3, a4, a5, vI x] S h Q ↔ WP 189 0 163 [a0, a1, a2, a3, a4, a5, vI (wr (x + 1))] S h Q := wp_iinc rfl rfl rfl
theorem s189_163 : WP 189 0 163 L S h Q ↔ WP 189 0 115 L S h Q := wp_pl rfl rfl rfl
theorem s189_166 : WP 189 0 166 [a0, a1, a2, a3, a4, vI x, a6] S h Q ↔ WP 189 0 169 [a0, a1, a2, a3, a4, vI (wr (x + 1)), a6] S h Q := wp_iinc rfl rfl rfl
theorem s189_169 : WP 189 0 169 L S h Q ↔ WP 189 0 106 L S h Q := wp_pl rfl rfl rfl
theorem s189_172 : WP 189 0 172 L S h Q ↔ WP 189 0 173 L (vI 1 :: S) h Q := wp_pl rfl rfl rfl
theorem s189_173 : WP 189 0 173 L [vI x] h Q ↔ ((x = 0 ∨ x = 1) ∧ Q (.inl (some (vI x))) h) := wp_iret rfl rfl
/-! RepeatFreeModel.isName()Z -/
theorem s190_0 : WP 190 0 0 [vA r, a1] S h Q ↔ WP 190 0 1 [vA r, a1] (vA r :: S) h Q := wp_aload rfl rfl
theorem s190_1 : WP 190 0 1 L (vA (some a) :: S) h Q ↔ ((hk h a).1 = 110 ∧ (zw S ≤ 8 ∧ WP 254 0 0 [vA (some a), vJ] [] h (zret 190 0 1 4 L S Q))) := wp_V1 (c := 110) rfl rfl (fun _ => rfl) rfl rfl (zcan_of rfl rfl) rfl rfl rfl
theorem s190_4 : WP 190 0 4 [a0, a1] (vI x :: S) h Q ↔ WP 190 0 5 [a0, vI x] S h Q := wp_istore rfl rfl rfl
theorem s190_5 : WP 190 0 5 [vA r, a1] S h Q ↔ WP 190 0 6 [vA r, a1] (vA r :: S) h Q := wp_aload rfl rfl
theorem s190_6 : WP 190 0 6 L (vA (some a) :: S) h Q ↔ ((hk h a).1 = 110 ∧ (zw S ≤ 8 ∧ WP 177 0 0 [vA (some a)] [] h (zret 190 0 6 9 L S Q))) := wp_V1 (c := 110) rfl rfl (fun _ => rfl) rfl rfl (zcan_of rfl rfl) rfl rfl rfl
theorem s190_9 : WP 190 0 9 L (vI x :: S) h Q ↔ zif (x = 0) (WP 190 0 12 L S h Q) (WP 190 0 98 L S h Q) := wp_bN zc_eq rfl rfl rfl
theorem s190_12 : WP 190 0 12 [a0, vI x] S h Q ↔ WP 190 0 13 [a0, vI x] (vI x :: S) h Q := wp_iload rfl rfl
theorem s190_13 : WP 190 0 13 L S h Q ↔ WP 190 0 14 L (vI 1 :: S) h Q := wp_pl rfl rfl rfl
theorem s190_14 : WP 190 0 14 L S h Q ↔ WP 190 0 16 L (vI 6 :: S) h Q := wp_pl rfl rfl rfl
theorem s190_16 : WP 190 0 16 L (vI x2 :: vI x1 :: vI x0 :: S) h Q ↔ (zw S ≤ 8 ∧ WP 183 0 0 [vI x0, vI x1, vI x2] [] h (zret 190 0 16 19 L S Q)) := wp_S rfl rfl (zcan_of rfl rfl) rfl rfl rfl
theorem s190_19 : WP 190 0 19 L (vI x :: S) h Q ↔ zif (x = 0) (WP 190 0 98 L S h Q) (WP 190 0 22 L S h Q) := wp_bE zc_eq rfl rfl rfl
theorem s190_22 : WP 190 0 22 [vA r, a1] S h Q ↔ WP 190 0 23 [vA r, a1] (vA r :: S) h Q := wp_aload rfl rfl
theorem s190_23 : WP 190 0 23 L S h Q ↔ WP 190 0 25 L (vA (some 4) :: S) h Q := wp_pl rfl rfl rfl
theorem s190_25 : WP 190 0 25 L (vA r0 :: vA (some a) :: S) h Q ↔ ((hk h a).1 = 110 ∧ (zw S ≤ 8 ∧ WP 193 0 0 [vA (some a), vA r0, vJ, vJ] [] h (zret 190 0 25 28 L S Q))) := wp_V1 (c := 110) rfl rfl (fun _ => rfl) rfl rfl (zcan_of rfl rfl) rfl rfl rfl
theorem s190_28 : WP 190 0 28 L (vI x :: S) h Q ↔ zif (x = 0) (WP 190 0 31 L S h Q) (WP 190 0 98 L S h Q) := wp_bN zc_eq rfl rfl rfl
theorem s190_31 : WP 190 0 31 [vA r, a1] S h Q ↔ WP 190 0 32 [vA r, a1] (vA r :: S) h Q := wp_aload rfl rfl
theorem s190_32 : WP 190 0 32 L S h Q ↔ WP 190 0 34 L (vA (some 6) :: S) h Q := wp_pl rfl rfl rfl
theorem s190_34 : WP 190 0 34 L (vA r0 :: vA (some a) :: S) h Q ↔ ((hk h a).1 = 110 ∧ (zw S ≤ 8 ∧ WP 193 0 0 [vA (some a), vA r0, vJ, vJ] [] h (zret 190 0 34 37 L S Q))) := wp_V1 (c := 110) rfl rfl (fun _ => rfl) rfl rfl (zcan_of rfl rfl) rfl rfl rfl
theorem s190_37 : WP 190 0 37 L (vI x :: S) h Q ↔ zif (x = 0) (WP 190 0 40 L S h Q) (WP 190 0 98 L S h Q) := wp_bN zc_eq rfl rfl rfl
theorem s190_40 : WP 190 0 40 [vA r, a1] S h Q ↔ WP 190 0 41 [vA r, a1] (vA r :: S) h Q := wp_aload rfl rfl
theorem s190_41 : WP 190 0 41 L S h Q ↔ WP 190 0 43 L (vA (some 8) :: S) h Q := wp_pl rfl rfl rfl
theorem s190_43 : WP 190 0 43 L (vA r0 :: vA (some a) :: S) h Q ↔ ((hk h a).1 = 110 ∧ (zw S ≤ 8 ∧ WP 193 0 0 [vA (some a), vA r0, vJ, vJ] [] h (zret 190 0 43 46 L S Q))) := wp_V1 (c := 110) rfl rfl (fun _ => rfl) rfl rfl (zcan_of rfl rfl) rfl rfl rfl
theorem s190_46 : WP 190 0 46 L (vI x :: S) h Q ↔ zif (x = 0) (WP 190 0 49 L S h Q) (WP 190 0 98 L S h Q) := wp_bN zc_eq rfl rfl rfl
theorem s190_49 : WP 190 0 49 [vA r, a1] S h Q ↔ WP 190 0 50 [vA r, a1] (vA r :: S) h Q := wp_aload rfl rfl
theorem s190_50 : WP 190 0 50 L S h Q ↔ WP 190 0 52 L (vA (some 10) :: S) h Q := wp_pl rfl rfl rfl
theorem s190_52 : WP 190 0 52 L (vA r0 :: vA (some a) :: S) h Q ↔ ((hk h a).1 = 110 ∧ (zw S ≤ 8 ∧ WP 193 0 0 [vA (some a), vA r0, vJ, vJ] [] h (zret 190 0 52 55 L S Q))) := wp_V1 (c := 110) rfl rfl (fun _ => rfl) rfl rfl (zcan_of rfl rfl) rfl rfl rfl
theorem s190_55 : WP 190 0 55 L (vI x :: S) h Q ↔ zif (x = 0) (WP 190 0 58 L S h Q) (WP 190 0 98 L S h Q) := wp_bN zc_eq rfl rfl rfl
theorem s190_58 : WP 190 0 58 [vA r, a1] S h Q ↔ WP 190 0 59 [vA r, a1] (vA r :: S) h Q := wp_aload rfl rfl
theorem s190_59 : WP 190 0 59 L S h Q ↔ WP 190 0 61 L (vA (some 12) :: S) h Q := wp_pl rfl rfl rfl
theorem s190_61 : WP 190 0 61 L (vA r0 :: vA (some a) :: S) h Q ↔ ((hk h a).1 = 110 ∧ (zw S ≤ 8 ∧ WP 193 0 0 [vA (some a), vA r0, vJ, vJ] [] h (zret 190 0 61 64 L S Q))) := wp_V1 (c := 110) rfl rfl (fun _ => rfl) rfl rfl (zcan_of rfl rfl) rfl rfl rfl
theorem s190_64 : WP 190 0 64 L (vI x :: S) h Q ↔ zif (x = 0) (WP 190 0 67 L S h Q) (WP 190 0 98 L S h Q) := wp_bN zc_eq rfl rfl rfl
theorem s190_67 : WP 190 0 67 [vA r, a1] S h Q ↔ WP 190 0 68 [vA r, a1] (vA r :: S) h Q := wp_aload rfl rfl
theorem s190_68 : WP 190 0 68 L S h Q ↔ WP 190 0 70 L (vA (some 14) :: S) h Q := wp_pl rfl rfl rfl
theorem s190_70 : WP 190 0 70 L (vA r0 :: vA (some a) :: S) h Q ↔ ((hk h a).1 = 110 ∧ (zw S ≤ 8 ∧ WP 193 0 0 [vA (some a), vA r0, vJ, vJ] [] h (zret 190 0 70 73 L S Q))) := wp_V1 (c := 110) rfl rfl (fun _ => rfl) rfl rfl (zcan_of rfl rfl) rfl rfl rfl
theorem s190_73 : WP 190 0 73 L (vI x :: S) h Q ↔ zif (x = 0) (WP 190 0 76 L S h Q) (WP 190 0 98 L S h Q) := wp_bN zc_eq rfl rfl rfl
theorem s190_76 : WP 190 0 76 [vA r, a1] S h Q ↔ WP 190 0 77 [vA r, a1] (vA r :: S) h Q := wp_aload rfl rfl
theorem s190_77 : WP 190 0 77 L S h Q ↔ WP 190 0 79 L (vA (some 16) :: S) h Q := wp_pl rfl rfl rfl
theorem s190_79 : WP 190 0 79 L (vA r0 :: vA (some a) :: S) h Q ↔ ((hk h a).1 = 110 ∧ (zw S ≤ 8 ∧ WP 193 0 0 [vA (some a), vA r0, vJ, vJ] [] h (zret 190 0 79 82 L S Q))) := wp_V1 (c := 110) rfl rfl (fun _ => rfl) rfl rfl (zcan_of rfl rfl) rfl rfl rfl
theorem s190_82 : WP 190 0 82 L (vI x :: S) h Q ↔ zif (x = 0) (WP 190 0 85 L S h Q) (WP 190 0 98 L S h Q) := wp_bN zc_eq rfl rfl rfl
theorem s190_85 : WP 190 0 85 [vA r, a1] S h Q ↔ WP 190 0 86 [vA r, a1] (vA r :: S) h Q := wp_aload rfl rfl
theorem s190_86 : WP 190 0 86 L S h Q ↔ WP 190 0 88 L (vA (some 18) :: S) h Q := wp_pl rfl rfl rfl
theorem s190_88 : WP 190 0 88 L (vA r0 :: vA (some a) :: S) h Q ↔ ((hk h a).1 = 110 ∧ (zw S ≤ 8 ∧ WP 193 0 0 [vA (some a), vA r0, vJ, vJ] [] h (zret 190 0 88 91 L S Q))) := wp_V1 (c := 110) rfl rfl (fun _ => rfl) rfl rfl (zcan_of rfl rfl) rfl rfl rfl
theorem s190_91 : WP 190 0 91 L (vI x :: S) h Q ↔ zif (x = 0) (WP 190 0 94 L S h Q) (WP 190 0 98 L S h Q) := wp_bN zc_eq rfl rfl rfl
theorem s190_94 : WP 190 0 94 L S h Q ↔ WP 190 0 95 L (vI 1 :: S) h Q := wp_pl rfl rfl rfl
theorem s190_95 : WP 190 0 95 L S h Q ↔ WP 190 0 99 L S h Q := wp_pl rfl rfl rfl
theorem s190_98 : WP 190 0 98 L S h Q ↔ WP 190 0 99 L (vI 0 :: S) h Q := wp_pl rfl rfl rfl
theorem s190_99 : WP 190 0 99 L [vI x] h Q ↔ ((x = 0 ∨ x = 1) ∧ Q (.inl (some (vI x))) h) := wp_iret rfl rfl
/-! RepeatFreeModel.isRepeated([II)Z -/
theorem s191_0 : WP 191 0 0 L S h Q ↔ WP 191 0 1 L (vI 1 :: S) h Q := wp_pl rfl rfl rfl
theorem s191_1 : WP 191 0 1 [a0, a1, a2, a3, a4] (vI x :: S) h Q ↔ WP 191 0 2 [a0, a1, a2, vI x, a4] S h Q := wp_istore rfl rfl rfl
theorem s191_2 : WP 191 0 2 [a0, a1, a2, vI x, a4] S h Q ↔ WP 191 0 3 [a0, a1, a2, vI x, a4] (vI x :: S) h Q := wp_iload rfl rfl
theorem s191_3 : WP 191 0 3 [a0, a1, vI x, a3, a4] S h Q ↔ WP 191 0 4 [a0, a1, vI x, a3, a4] (vI x :: S) h Q := wp_iload rfl rfl
theorem s191_4 : WP 191 0 4 L (vI y :: vI x :: S) h Q ↔ zif (y < x) (WP 191 0 70 L S h Q) (WP 191 0 7 L S h Q) := wp_bE zc_gt rfl rfl rfl
theorem s191_7 : WP 191 0 7 [vA r, a1, a2, a3, a4] S h Q ↔ WP 191 0 8 [vA r, a1, a2, a3, a4] (vA r :: S) h Q := wp_aload rfl rfl
theorem s191_8 : WP 191 0 8 L (vA (some a) :: S) h Q ↔ (zhas 54 (hk h a) = true ∧ WP 191 0 11 L (hm h a 54 :: S) h Q) := wp_if rfl rfl rfl
theorem s191_11 : WP 191 0 11 L S h Q ↔ WP 191 0 12 L (vI 1 :: S) h Q := wp_pl rfl rfl rfl
theorem s191_12 : WP 191 0 12 L (vI x :: vA (some a) :: S) h Q ↔ (((hk h a).1 = 1 ∧ 0 ≤ x ∧ x < ((hk h a).2 : Int)) ∧ WP 191 0 13 L (hm h a x.toNat :: S) h Q) := wp_if rfl rfl rfl
theorem s191_13 : WP 191 0 13 L (vI x :: S) h Q ↔ zif (0 < x) (WP 191 0 16 L S h Q) (WP 191 0 70 L S h Q) := wp_bN zc_gt rfl rfl rfl
theorem s191_16 : WP 191 0 16 [a0, a1, a2, vI x, a4] S h Q ↔ WP 191 0 17 [a0, a1, a2, vI x, a4] (vI x :: S) h Q := wp_iload rfl rfl
theorem s191_17 : WP 191 0 17 [a0, a1, a2, a3, a4] (vI x :: S) h Q ↔ WP 191 0 19 [a0, a1, a2, a3, vI x] S h Q := wp_istore rfl rfl rfl
theorem s191_19 : WP 191 0 19 [a0, a1, a2, a3, vI x] S h Q ↔ WP 191 0 21 [a0, a1, a2, a3, vI x] (vI x :: S) h Q := wp_iload rfl rfl
theorem s191_21 : WP 191 0 21 [a0, a1, vI x, a3, a4] S h Q ↔ WP 191 0 22 [a0, a1, vI x, a3, a4] (vI x :: S) h Q := wp_iload rfl rfl
theorem s191_22 : WP 191 0 22 L (vI y :: vI x :: S) h Q ↔ zif (x < y) (WP 191 0 25 L S h Q) (WP 191 0 52 L S h Q) := wp_bN zc_lt rfl rfl rfl
theorem s191_25 : WP 191 0 25 [a0, vA r, a2, a3, a4] S h Q ↔ WP 191 0 26 [a0, vA r, a2, a3, a4] (vA r :: S) h Q := wp_aload rfl rfl
theorem s191_26 : WP 191 0 26 [a0, a1, vI x, a3, a4] S h Q ↔ WP 191 0 27 [a0, a1, vI x, a3, a4] (vI x :: S) h Q := wp_iload rfl rfl
theorem s191_27 : WP 191 0 27 L S h Q ↔ WP 191 0 28 L (vI 1 :: S) h Q := wp_pl rfl rfl rfl
theorem s191_28 : WP 191 0 28 L (vI y :: vI x :: S) h Q ↔ WP 191 0 29 L (vI (wr (x - y)) :: S) h Q := wp_pl rfl rfl rfl
theorem s191_29 : WP 191 0 29 [a0, a1, a2, a3, vI x] S h Q ↔ WP 191 0 31 [a0, a1, a2, a3, vI x] (vI x :: S) h Q := wp_iload rfl rfl
theorem s191_31 : WP 191 0 31 L (vI y :: vI x :: S) h Q ↔ WP 191 0 32 L (vI (wr (x - y)) :: S) h Q := wp_pl rfl rfl rfl
theorem s191_32 : WP 191 0 32 L (vI x :: vA (some a) :: S) h Q ↔ (((hk h a).1 = 1 ∧ 0 ≤ x ∧ x < ((hk h a).2 : Int)) ∧ WP 191 0 33 L (hm h a x.toNat :: S) h Q) := wp_if rfl rfl rfl
theorem s191_33 : WP 191 0 33 [a0, vA r, a2, a3, a4] S h Q ↔ WP 191 0 34 [a0, vA r, a2, a3, a4] (vA r :: S) h Q := wp_aload rfl rfl
theorem s191_34 : WP 191 0 34 [a0, a1, vI x, a3, a4] S h Q ↔ WP 191 0 35 [a0, a1, vI x, a3, a4] (vI x :: S) h Q := wp_iload rfl rfl
theorem s191_35 : WP 191 0 35 L S h Q ↔ WP 191 0 36 L (vI 1 :: S) h Q := wp_pl rfl rfl rfl
theorem s191_36 : WP 191 0 36 L (vI y :: vI x :: S) h Q ↔ WP 191 0 37 L (vI (wr (x - y)) :: S) h Q := wp_pl rfl rfl rfl
theorem s191_37 : WP 191 0 37 [a0, a1, a2, a3, vI x] S h Q ↔ WP 191 0 39 [a0, a1, a2, a3, vI x] (vI x :: S) h Q := wp_iload rfl rfl
theorem s191_39 : WP 191 0 39 L (vI y :: vI x :: S) h Q ↔ WP 191 0 40 L (vI (wr (x - y)) :: S) h Q := wp_pl rfl rfl rfl
theorem s191_40 : WP 191 0 40 [a0, a1, a2, vI x, a4] S h Q ↔ WP 191 0 41 [a0, a1, a2, vI x, a4] (vI x :: S) h Q := wp_iload rfl rfl
theorem s191_41 : WP 191 0 41 L (vI y :: vI x :: S) h Q ↔ WP 191 0 42 L (vI (wr (x + y)) :: S) h Q := wp_pl rfl rfl rfl
theorem s191_42 : WP 191 0 42 L (vI x :: vA (some a) :: S) h Q ↔ (((hk h a).1 = 1 ∧ 0 ≤ x ∧ x < ((hk h a).2 : Int)) ∧ WP 191 0 43 L (hm h a x.toNat :: S) h Q) := wp_if rfl rfl rfl
theorem s191_43 : WP 191 0 43 L (vI y :: vI x :: S) h Q ↔ zif (x = y) (WP 191 0 46 L S h Q) (WP 191 0 52 L S h Q) := wp_bN zc_eq rfl rfl rfl
theorem s191_46 : WP 191 0 46 [a0, a1, a2, a3, vI x] S h Q ↔ WP 191 0 49 [a0, a1, a2, a3, vI (wr (x + 1))] S h Q := wp_iinc rfl rfl rfl
theorem s191_49 : WP 191 0 49 L S h Q ↔ WP 191 0 19 L S h Q := wp_pl rfl rfl rfl
theorem s191_52 : WP 191 0 52 [vA r, a1, a2, a3, a4] S h Q ↔ WP 191 0 53 [vA r, a1, a2, a3, a4] (vA r :: S) h Q := wp_aload rfl rfl
theorem s191_53 : WP 191 0 53 [a0, a1, a2, a3, vI x] S h Q ↔ WP 191 0 55 [a0, a1, a2, a3, vI x] (vI x :: S) h Q := wp_iload rfl rfl
theorem s191_55 : WP 191 0 55 [a0, a1, a2, vI x, a4] S h Q ↔ WP 191 0 56 [a0, a1, a2, vI x, a4] (vI x :: S) h Q := wp_iload rfl rfl
theorem s191_56 : WP 191 0 56 L (vI x1 :: vI x0 :: vA (some a) :: S) h Q ↔ ((hk h a).1 = 110 ∧ (zw S ≤ 8 ∧ WP 187 0 0 [vA (some a), vI x0, vI x1, vJ] [] h (zret 191 0 56 59 L S Q))) := wp_V1 (c := 110) rfl rfl (fun _ => rfl) rfl rfl (zcan_of rfl rfl) rfl rfl rfl
theorem s191_59 : WP 191 0 59 L (vI x :: S) h Q ↔ zif (x = 0) (WP 191 0 64 L S h Q) (WP 191 0 62 L S h Q) := wp_bE zc_eq rfl rfl rfl
theorem s191_62 : WP 191 0 62 L S h Q ↔ WP 191 0 63 L (vI 1 :: S) h Q := wp_pl rfl rfl rfl
theorem s191_63 : WP 191 0 63 L [vI x] h Q ↔ ((x = 0 ∨ x = 1) ∧ Q (.inl (some (vI x))) h) := wp_iret rfl rfl
theorem s191_64 : WP 191 0 64 [a0, a1, a2, vI x, a4] S h Q ↔ WP 191 0 67 [a0, a1, a2, vI (wr (x + 1)), a4] S h Q := wp_iinc rfl rfl rfl
theorem s191_67 : WP 191 0 67 L S h Q ↔ WP 191 0 2 L S h Q := wp_pl rfl rfl rfl
theorem s191_70 : WP 191 0 70 L S h Q ↔ WP 191 0 71 L (vI 0 :: S) h Q := wp_pl rfl rfl rfl
theorem s191_71 : WP 191 0 71 L [vI x] h Q ↔ ((x = 0 ∨ x = 1) ∧ Q (.inl (some (vI x))) h) := wp_iret rfl rfl
/-! RepeatFreeModel.isStuck(I)Z -/
theorem s192_0 : WP 192 0 0 L S h Q ↔ WP 192 0 1 L (vI 0 :: S) h Q := wp_pl rfl rfl rfl
theorem s192_1 : WP 192 0 1 [a0, a1, a2] (vI x :: S) h Q ↔ WP 192 0 2 [a0, a1, vI x] S h Q := wp_istore rfl rfl rfl
theorem s192_2 : WP 192 0 2 [a0, a1, vI x] S h Q ↔ WP 192 0 3 [a0, a1, vI x] (vI x :: S) h Q := wp_iload rfl rfl
theorem s192_3 : WP 192 0 3 [vA r, a1, a2] S h Q ↔ WP 192 0 4 [vA r, a1, a2] (vA r :: S) h Q := wp_aload rfl rfl
theorem s192_4 : WP 192 0 4 L (vA (some a) :: S) h Q ↔ (zhas 54 (hk h a) = true ∧ WP 192 0 7 L (hm h a 54 :: S) h Q) := wp_if rfl rfl rfl
theorem s192_7 : WP 192 0 7 L S h Q ↔ WP 192 0 8 L (vI 0 :: S) h Q := wp_pl rfl rfl rfl
theorem s192_8 : WP 192 0 8 L (vI x :: vA (some a) :: S) h Q ↔ (((hk h a).1 = 1 ∧ 0 ≤ x ∧ x < ((hk h a).2 : Int)) ∧ WP 192 0 9 L (hm h a x.toNat :: S) h Q) := wp_if rfl rfl rfl
theorem s192_9 : WP 192 0 9 L (vI y :: vI x :: S) h Q ↔ zif (x < y) (WP 192 0 12 L S h Q) (WP 192 0 41 L S h Q) := wp_bN zc_lt rfl rfl rfl
theorem s192_12 : WP 192 0 12 [vA r, a1, a2] S h Q ↔ WP 192 0 13 [vA r, a1, a2] (vA r :: S) h Q := wp_aload rfl rfl
theorem s192_13 : WP 192 0 13 L (vA (some a) :: S) h Q ↔ (zhas 64 (hk h a) = true ∧ WP 192 0 16 L (hm h a 64 :: S) h Q) := wp_if rfl rfl rfl
theorem s192_16 : WP 192 0 16 [a0, vI x, a2] S h Q ↔ WP 192 0 17 [a0, vI x, a2] (vI x :: S) h Q := wp_iload rfl rfl
theorem s192_17 : WP 192 0 17 [a0, a1, vI x] S h Q ↔ WP 192 0 18 [a0, a1, vI x] (vI x :: S) h Q := wp_iload rfl rfl
theorem s192_18 : WP 192 0 18 L (vI y :: vI x :: vA (some a) :: S) h Q ↔ (((hk h a).1 = 1 ∧ (0 ≤ x ∧ x < ((hk h a).2 : Int)) ∧ zNC ≤ a) ∧ WP 192 0 19 L S (hput h a x.toNat (vI y)) Q) := wp_if rfl rfl rfl
theorem s192_19 : WP 192 0 19 [vA r, a1, a2] S h Q ↔ WP 192 0 20 [vA r, a1, a2] (vA r :: S) h Q := wp_aload rfl rfl
theorem s192_20 : WP 192 0 20 [vA r, a1, a2] S h Q ↔ WP 192 0 21 [vA r, a1, a2] (vA r :: S) h Q := wp_aload rfl rfl
theorem s192_21 : WP 192 0 21 L (vA (some a) :: S) h Q ↔ (zhas 64 (hk h a) = true ∧ WP 192 0 24 L (hm h a 64 :: S) h Q) := wp_if rfl rfl rfl
theorem s192_24 : WP 192 0 24 [a0, vI x, a2] S h Q ↔ WP 192 0 25 [a0, vI x, a2] (vI x :: S) h Q := wp_iload rfl rfl
theorem s192_25 : WP 192 0 25 L S h Q ↔ WP 192 0 26 L (vI 1 :: S) h Q := wp_pl rfl rfl rfl
theorem s192_26 : WP 192 0 26 L (vI y :: vI x :: S) h Q ↔ WP 192 0 27 L (vI (wr (x + y)) :: S) h Q := wp_pl rfl rfl rfl
theorem s192_27 : WP 192 0 27 L (vI x1 :: vA r0 :: vA (some a) :: S) h Q ↔ ((hk h a).1 = 110 ∧ (zw S ≤ 8 ∧ WP 173 0 0 [vA (some a), vA r0, vI x1, vJ] [] h (zret 192 0 27 30 L S Q))) := wp_V1 (c := 110) rfl rfl (fun _ => rfl) rfl rfl (zcan_of rfl rfl) rfl rfl rfl
theorem s192_30 : WP 192 0 30 L (vI x :: S) h Q ↔ zif (x = 0) (WP 192 0 35 L S h Q) (WP 192 0 33 L S h Q) := wp_bE zc_eq rfl rfl rfl
theorem s192_33 : WP 192 0 33 L S h Q ↔ WP 192 0 34 L (vI 0 :: S) h Q := wp_pl rfl rfl rfl
theorem s192_34 : WP 192 0 34 L [vI x] h Q ↔ ((x = 0 ∨ x = 1) ∧ Q (.inl (some (vI x))) h) := wp_iret rfl rfl
theorem s192_35 : WP 192 0 35 [a0, a1, vI x] S h Q ↔ WP 192 0 38 [a0, a1, vI (wr (x + 1))] S h Q := wp_iinc rfl rfl rfl
theorem s192_38 : WP 192 0 38 L S h Q ↔ WP 192 0 2 L S h Q := wp_pl rfl rfl rfl
theorem s192_41 : WP 192 0 41 L S h Q ↔ WP 192 0 42 L (vI 1 :: S) h Q := wp_pl rfl rfl rfl
theorem s192_42 : WP 192 0 42 L [vI x] h Q ↔ ((x = 0 ∨ x = 1) ∧ Q (.inl (some (vI x))) h) := wp_iret rfl rfl
/-! RepeatFreeModel.isWord(Ljava/lang/String;)Z -/
theorem s193_0 : WP 193 0 0 [vA r, a1, a2, a3] S h Q ↔ WP 193 0 1 [vA r, a1, a2, a3] (vA r :: S) h Q := wp_aload rfl rfl
theorem s193_1 : WP 193 0 1 L (vA (some a) :: S) h Q ↔ ((hk h a).1 = 110 ∧ (zw S ≤ 8 ∧ WP 177 0 0 [vA (some a)] [] h (zret 193 0 1 4 L S Q))) := wp_V1 (c := 110) rfl rfl (fun _ => rfl) rfl rfl (zcan_of rfl rfl) rfl rfl rfl
theorem s193_4 : WP 193 0 4 L (vI x :: S) h Q ↔ zif (x = 0) (WP 193 0 7 L S h Q) (WP 193 0 22 L S h Q) := wp_bN zc_eq rfl rfl rfl
theorem s193_7 : WP 193 0 7 [vA r, a1, a2, a3] S h Q ↔ WP 193 0 8 [vA r, a1, a2, a3] (vA r :: S) h Q := wp_aload rfl rfl
theorem s193_8 : WP 193 0 8 L (vA (some a) :: S) h Q ↔ ((hk h a).1 = 110 ∧ (zw S ≤ 8 ∧ WP 254 0 0 [vA (some a), vJ] [] h (zret 193 0 8 11 L S Q))) := wp_V1 (c := 110) rfl rfl (fun _ => rfl) rfl rfl (zcan_of rfl rfl) rfl rfl rfl
theorem s193_11 : WP 193 0 11 [a0, vA r, a2, a3] S h Q ↔ WP 193 0 12 [a0, vA r, a2, a3] (vA r :: S) h Q := wp_aload rfl rfl
theorem s193_12 : WP 193 0 12 L (vA (some a) :: S) h Q ↔ ((hk h a).1 = 117 ∧ (zw S ≤ 8 ∧ WP 323 0 0 [vA (some a)] [] h (zret 193 0 12 15 L S Q))) := wp_V1 (c := 117) rfl rfl (fun _ => rfl) rfl rfl (zcan_of rfl rfl) rfl rfl rfl
theorem s193_15 : WP 193 0 15 L (vI y :: vI x :: S) h Q ↔ zif (x = y) (WP 193 0 18 L S h Q) (WP 193 0 22 L S h Q) := wp_bN zc_eq rfl rfl rfl
theorem s193_18 : WP 193 0 18 L S h Q ↔ WP 193 0 19 L (vI 1 :: S) h Q := wp_pl rfl rfl rfl
theorem s193_19 : WP 193 0 19 L S h Q ↔ WP 193 0 23 L S h Q := wp_pl rfl rfl rfl
theorem s193_22 : WP 193 0 22 L S h Q ↔ WP 193 0 23 L (vI 0 :: S) h Q := wp_pl rfl rfl rfl
theorem s193_23 : WP 193 0 23 [a0, a1, a2, a3] (vI x :: S) h Q ↔ WP 193 0 24 [a0, a1, vI x, a3] S h Q := wp_istore rfl rfl rfl
theorem s193_24 : WP 193 0 24 L S h Q ↔ WP 193 0 25 L (vI 0 :: S) h Q := wp_pl rfl rfl rfl
theorem s193_25 : WP 193 0 25 [a0, a1, a2, a3] (vI x :: S) h Q ↔ WP 193 0 26 [a0, a1, a2, vI x] S h Q := wp_istore rfl rfl rfl
theorem s193_26 : WP 193 0 26 [a0, a1, vI x, a3] S h Q ↔ WP 193 0 27 [a0, a1, vI x, a3] (vI x :: S) h Q := wp_iload rfl rfl
theorem s193_27 : WP 193 0 27 L (vI x :: S) h Q ↔ zif (x = 0) (WP 193 0 69 L S h Q) (WP 193 0 30 L S h Q) := wp_bE zc_eq rfl rfl rfl
theorem s193_30 : WP 193 0 30 [a0, a1, a2, vI x] S h Q ↔ WP 193 0 31 [a0, a1, a2, vI x] (vI x :: S) h Q := wp_iload rfl rfl
theorem s193_31 : WP 193 0 31 [a0, vA r, a2, a3] S h Q ↔ WP 193 0 32 [a0, vA r, a2, a3] (vA r :: S) h Q := wp_aload rfl rfl
theorem s193_32 : WP 193 0 32 L (vA (some a) :: S) h Q ↔ ((hk h a).1 = 117 ∧ (zw S ≤ 8 ∧ WP 323 0 0 [vA (some a)] [] h (zret 193 0 32 35 L S Q))) := wp_V1 (c := 117) rfl rfl (fun _ => rfl) rfl rfl (zcan_of rfl rfl) rfl rfl rfl
theorem s193_35 : WP 193 0 35 L (vI y :: vI x :: S) h Q ↔ zif (x < y) (WP 193 0 38 L S h Q) (WP 193 0 69 L S h Q) := wp_bN zc_lt rfl rfl rfl
theorem s193_38 : WP 193 0 38 [vA r, a1, a2, a3] S h Q ↔ WP 193 0 39 [vA r, a1, a2, a3] (vA r :: S) h Q := wp_aload rfl rfl
theorem s193_39 : WP 193 0 39 L (vA (some a) :: S) h Q ↔ (zhas 46 (hk h a) = true ∧ WP 193 0 42 L (hm h a 46 :: S) h Q) := wp_if rfl rfl rfl
theorem s193_42 : WP 193 0 42 [vA r, a1, a2, a3] S h Q ↔ WP 193 0 43 [vA r, a1, a2, a3] (vA r :: S) h Q := wp_aload rfl rfl
theorem s193_43 : WP 193 0 43 L (vA (some a) :: S) h Q ↔ (zhas 49 (hk h a) = true ∧ WP 193 0 46 L (hm h a 49 :: S) h Q) := wp_if rfl rfl rfl
theorem s193_46 : WP 193 0 46 [a0, a1, a2, vI x] S h Q ↔ WP 193 0 47 [a0, a1, a2, vI x] (vI x :: S) h Q := wp_iload rfl rfl
theorem s193_47 : WP 193 0 47 L (vI y :: vI x :: S) h Q ↔ WP 193 0 48 L (vI (wr (x + y)) :: S) h Q := wp_pl rfl rfl rfl
theorem s193_48 : WP 193 0 48 L (vI x :: vA (some a) :: S) h Q ↔ ((((hk h a).1 = 2 ∨ (hk h a).1 = 3) ∧ 0 ≤ x ∧ x < ((hk h a).2 : Int)) ∧ WP 193 0 49 L (hm h a x.toNat :: S) h Q) := wp_if rfl rfl rfl
theorem s193_49 : WP 193 0 49 [a0, vA r, a2, a3] S h Q ↔ WP 193 0 50 [a0, vA r, a2, a3] (vA r :: S) h Q := wp_aload rfl rfl
theorem s193_50 : WP 193 0 50 [a0, a1, a2, vI x] S h Q ↔ WP 193 0 51 [a0, a1, a2, vI x] (vI x :: S) h Q := wp_iload rfl rfl
theorem s193_51 : WP 193 0 51 L (vI x0 :: vA (some a) :: S) h Q ↔ ((hk h a).1 = 117 ∧ (zw S ≤ 8 ∧ WP 310 0 0 [vA (some a), vI x0] [] h (zret 193 0 51 54 L S Q))) := wp_V1 (c := 117) rfl rfl (fun _ => rfl) rfl rfl (zcan_of rfl rfl) rfl rfl rfl
theorem s193_54 : WP 193 0 54 L (vI y :: vI x :: S) h Q ↔ zif (x = y) (WP 193 0 57 L S h Q) (WP 193 0 61 L S h Q) := wp_bN zc_eq rfl rfl rfl
theorem s193_57 : WP 193 0 57 L S h Q ↔ WP 193 0 58 L (vI 1 :: S) h Q := wp_pl rfl rfl rfl
theorem s193_58 : WP 193 0 58 L S h Q ↔ WP 193 0 62 L S h Q := wp_pl rfl rfl rfl
theorem s193_61 : WP 193 0 61 L S h Q ↔ WP 193 0 62 L (vI 0 :: S) h Q := wp_pl rfl rfl rfl
theorem s193_62 : WP 193 0 62 [a0, a1, a2, a3] (vI x :: S) h Q ↔ WP 193 0 63 [a0, a1, vI x, a3] S h Q := wp_istore rfl rfl rfl
theorem s193_63 : WP 193 0 63 [a0, a1, a2, vI x] S h Q ↔ WP 193 0 66 [a0, a1, a2, vI (wr (x + 1))] S h Q := wp_iinc rfl rfl rfl
theorem s193_66 : WP 193 0 66 L S h Q ↔ WP 193 0 26 L S h Q := wp_pl rfl rfl rfl
theorem s193_69 : WP 193 0 69 [a0, a1, vI x, a3] S h Q ↔ WP 193 0 70 [a0, a1, vI x, a3] (vI x :: S) h Q := wp_iload rfl rfl
theorem s193_70 : WP 193 0 70 L [vI x] h Q ↔ ((x = 0 ∨ x = 1) ∧ Q (.inl (some (vI x))) h) := wp_iret rfl rfl
/-! RepeatFreeModel.keeps(II)I -/
theorem s194_0 : WP 194 0 0 [vA r, a1, a2] S h Q ↔ WP 194 0 1 [vA r, a1, a2] (vA r :: S) h Q := wp_aload rfl rfl
theorem s194_1 : WP 194 0 1 L S h Q ↔ WP 194 0 2 L (vI 0 :: S) h Q := wp_pl rfl rfl rfl
theorem s194_2 : WP 194 0 2 L (vI x :: vA (some a) :: S) h Q ↔ ((zNC ≤ a ∧ zhas 45 (hk h a) = true) ∧ WP 194 0 5 L S (hput h a 45 (vI x)) Q) := wp_put0 rfl rfl
theorem s194_5 : WP 194 0 5 [vA r, a1, a2] S h Q ↔ WP 194 0 6 [vA r, a1, a2] (vA r :: S) h Q := wp_aload rfl rfl
theorem s194_6 : WP 194 0 6 [a0, vI x, a2] S h Q ↔ WP 194 0 7 [a0, vI x, a2] (vI x :: S) h Q := wp_iload rfl rfl
theorem s194_7 : WP 194 0 7 L (vI x0 :: vA (some a) :: S) h Q ↔ ((hk h a).1 = 110 ∧ (zw S ≤ 8 ∧ WP 223 0 0 [vA (some a), vI x0] [] h (zret 194 0 7 10 L S Q))) := wp_V1 (c := 110) rfl rfl (fun _ => rfl) rfl rfl (zcan_of rfl rfl) rfl rfl rfl
theorem s194_10 : WP 194 0 10 L (vI x :: S) h Q ↔ zif (x = 0) (WP 194 0 13 L S h Q) (WP 194 0 36 L S h Q) := wp_bN zc_eq rfl rfl rfl
theorem s194_13 : WP 194 0 13 [vA r, a1, a2] S h Q ↔ WP 194 0 14 [vA r, a1, a2] (vA r :: S) h Q := wp_aload rfl rfl
theorem s194_14 : WP 194 0 14 [a0, a1, vI x] S h Q ↔ WP 194 0 15 [a0, a1, vI x] (vI x :: S) h Q := wp_iload rfl rfl
theorem s194_15 : WP 194 0 15 L S h Q ↔ WP 194 0 16 L (vI 1 :: S) h Q := wp_pl rfl rfl rfl
theorem s194_16 : WP 194 0 16 L S h Q ↔ WP 194 0 18 L (vI 6 :: S) h Q := wp_pl rfl rfl rfl
theorem s194_18 : WP 194 0 18 L (vI x2 :: vI x1 :: vI x0 :: S) h Q ↔ (zw S ≤ 8 ∧ WP 183 0 0 [vI x0, vI x1, vI x2] [] h (zret 194 0 18 21 L S Q)) := wp_S rfl rfl (zcan_of rfl rfl) rfl rfl rfl
theorem s194_21 : WP 194 0 21 L (vI x :: S) h Q ↔ zif (x = 0) (WP 194 0 24 L S h Q) (WP 194 0 28 L S h Q) := wp_bN zc_eq rfl rfl rfl
theorem s194_24 : WP 194 0 24 L S h Q ↔ WP 194 0 25 L (vI 1 :: S) h Q := wp_pl rfl rfl rfl
theorem s194_25 : WP 194 0 25 L S h Q ↔ WP 194 0 29 L S h Q := wp_pl rfl rfl rfl
theorem s194_28 : WP 194 0 28 L S h Q ↔ WP 194 0 29 L (vI 0 :: S) h Q := wp_pl rfl rfl rfl
theorem s194_29 : WP 194 0 29 L S h Q ↔ WP 194 0 30 L (vI 2 :: S) h Q := wp_pl rfl rfl rfl
theorem s194_30 : WP 194 0 30 L (vI x1 :: vI x0 :: vA (some a) :: S) h Q ↔ ((hk h a).1 = 110 ∧ (zw S ≤ 8 ∧ WP 248 0 0 [vA (some a), vI x0, vI x1] [] h (zret 194 0 30 33 L S Q))) := wp_V1 (c := 110) rfl rfl (fun _ => rfl) rfl rfl (zcan_of rfl rfl) rfl rfl rfl
theorem s194_33 : WP 194 0 33 L (vI x :: S) h Q ↔ zif (x = 0) (WP 194 0 38 L S h Q) (WP 194 0 36 L S h Q) := wp_bE zc_eq rfl rfl rfl
theorem s194_36 : WP 194 0 36 L S h Q ↔ WP 194 0 37 L (vI 0 :: S) h Q := wp_pl rfl rfl rfl
theorem s194_37 : WP 194 0 37 L [vI x] h Q ↔ Q (.inl (some (vI x))) h := wp_iret0 rfl rfl
theorem s194_38 : WP 194 0 38 [vA r, a1, a2] S h Q ↔ WP 194 0 39 [vA r, a1, a2] (vA r :: S) h Q := wp_aload rfl rfl
theorem s194_39 : WP 194 0 39 [a0, vI x, a2] S h Q ↔ WP 194 0 40 [a0, vI x, a2] (vI x :: S) h Q := wp_iload rfl rfl
theorem s194_40 : WP 194 0 40 [a0, a1, vI x] S h Q ↔ WP 194 0 41 [a0, a1, vI x] (vI x :: S) h Q := wp_iload rfl rfl
theorem s194_41 : WP 194 0 41 L (vI x1 :: vI x0 :: vA (some a) :: S) h Q ↔ ((hk h a).1 = 110 ∧ (zw S ≤ 8 ∧ WP 196 0 0 [vA (some a), vI x0, vI x1, vJ, vJ] [] h (zret 194 0 41 44 L S Q))) := wp_V1 (c := 110) rfl rfl (fun _ => rfl) rfl rfl (zcan_of rfl rfl) rfl rfl rfl
theorem s194_44 : WP 194 0 44 [vA r, a1, a2] S h Q ↔ WP 194 0 45 [vA r, a1, a2] (vA r :: S) h Q := wp_aload rfl rfl
theorem s194_45 : WP 194 0 45 L (vA (some a) :: S) h Q ↔ (zhas 67 (hk h a) = true ∧ WP 194 0 48 L (hm h a 67 :: S) h Q) := wp_if rfl rfl rfl
theorem s194_48 : WP 194 0 48 L (vI x :: S) h Q ↔ zif (x = 0) (WP 194 0 56 L S h Q) (WP 194 0 51 L S h Q) := wp_bE zc_eq rfl rfl rfl
theorem s194_51 : WP 194 0 51 L S h Q ↔ WP 194 0 53 L (vI (-2) :: S) h Q := wp_pl rfl rfl rfl
theorem s194_53 : WP 194 0 53 L S h Q ↔ WP 194 0 68 L S h Q := wp_pl rfl rfl rfl
theorem s194_56 : WP 194 0 56 [vA r, a1, a2] S h Q ↔ WP 194 0 57 [vA r, a1, a2] (vA r :: S) h Q := wp_aload rfl rfl
theorem s194_57 : WP 194 0 57 L (vA (some a) :: S) h Q ↔ (zhas 70 (hk h a) = true ∧ WP 194 0 60 L (hm h a 70 :: S) h Q) := wp_if rfl rfl rfl
theorem s194_60 : WP 194 0 60 L (vI x :: S) h Q ↔ zif (x = 0) (WP 194 0 67 L S h Q) (WP 194 0 63 L S h Q) := wp_bE zc_eq rfl rfl rfl
theorem s194_63 : WP 194 0 63 L S h Q ↔ WP 194 0 64 L (vI 0 :: S) h Q := wp_pl rfl rfl rfl
theorem s194_64 : WP 194 0 64 L S h Q ↔ WP 194 0 68 L S h Q := wp_pl rfl rfl rfl
theorem s194_67 : WP 194 0 67 L S h Q ↔ WP 194 0 68 L (vI 1 :: S) h Q := wp_pl rfl rfl rfl
theorem s194_68 : WP 194 0 68 L [vI x] h Q ↔ Q (.inl (some (vI x))) h := wp_iret0 rfl rfl
/-! RepeatFreeModel.laysAside()V -/
theorem s195_0 : WP 195 0 0 L S h Q ↔ WP 195 0 2 L (vI 65 :: S) h Q := wp_pl rfl rfl rfl
theorem s195_2 : WP 195 0 2 [a0, a1, a2] (vI x :: S) h Q ↔ WP 195 0 3 [a0, vI x, a2] S h Q := wp_istore rfl rfl rfl
theorem s195_3 : WP 195 0 3 [vA r, a1, a2] S h Q ↔ WP 195 0 4 [vA r, a1, a2] (vA r :: S) h Q := wp_aload rfl rfl
theorem s195_4 : WP 195 0 4 L (vA (some a) :: S) h Q ↔ (zhas 60 (hk h a) = true ∧ WP 195 0 7 L (hm h a 60 :: S) h Q) := wp_if rfl rfl rfl
theorem s195_7 : WP 195 0 7 L S h Q ↔ WP 195 0 9 L (vI 10 :: S) h Q := wp_pl rfl rfl rfl
theorem s195_9 : WP 195 0 9 L (vI y :: vI x :: S) h Q ↔ zif (x = y) (WP 195 0 12 L S h Q) (WP 195 0 52 L S h Q) := wp_bN zc_eq rfl rfl rfl
theorem s195_12 : WP 195 0 12 [a0, vI x, a2] S h Q ↔ WP 195 0 13 [a0, vI x, a2] (vI x :: S) h Q := wp_iload rfl rfl
theorem s195_13 : WP 195 0 13 [a0, a1, a2] (vI x :: S) h Q ↔ WP 195 0 14 [a0, a1, vI x] S h Q := wp_istore rfl rfl rfl
theorem s195_14 : WP 195 0 14 [a0, a1, vI x] S h Q ↔ WP 195 0 15 [a0, a1, vI x] (vI x :: S) h Q := wp_iload rfl rfl
theorem s195_15 : WP 195 0 15 L S h Q ↔ WP 195 0 17 L (vI 10 :: S) h Q := wp_pl rfl rfl rfl
theorem s195_17 : WP 195 0 17 [a0, vI x, a2] S h Q ↔ WP 195 0 18 [a0, vI x, a2] (vI x :: S) h Q := wp_iload rfl rfl
theorem s195_18 : WP 195 0 18 L (vI y :: vI x :: S) h Q ↔ WP 195 0 19 L (vI (wr (x * y)) :: S) h Q := wp_pl rfl rfl rfl
theorem s195_19 : WP 195 0 19 L (vI y :: vI x :: S) h Q ↔ zif (x < y) (WP 195 0 22 L S h Q) (WP 195 0 42 L S h Q) := wp_bN zc_lt rfl rfl rfl
theorem s195_22 : WP 195 0 22 [vA r, a1, a2] S h Q ↔ WP 195 0 23 [vA r, a1, a2] (vA r :: S) h Q := wp_aload rfl rfl
theorem s195_23 : WP 195 0 23 L (vA (some a) :: S) h Q ↔ (zhas 61 (hk h a) = true ∧ WP 195 0 26 L (hm h a 61 :: S) h Q) := wp_if rfl rfl rfl
theorem s195_26 : WP 195 0 26 [a0, a1, vI x] S h Q ↔ WP 195 0 27 [a0, a1, vI x] (vI x :: S) h Q := wp_iload rfl rfl
theorem s195_27 : WP 195 0 27 [a0, vI x, a2] S h Q ↔ WP 195 0 28 [a0, vI x, a2] (vI x :: S) h Q := wp_iload rfl rfl
theorem s195_28 : WP 195 0 28 L (vI y :: vI x :: S) h Q ↔ WP 195 0 29 L (vI (wr (x - y)) :: S) h Q := wp_pl rfl rfl rfl
theorem s195_29 : WP 195 0 29 [vA r, a1, a2] S h Q ↔ WP 195 0 30 [vA r, a1, a2] (vA r :: S) h Q := wp_aload rfl rfl
theorem s195_30 : WP 195 0 30 L (vA (some a) :: S) h Q ↔ (zhas 61 (hk h a) = true ∧ WP 195 0 33 L (hm h a 61 :: S) h Q) := wp_if rfl rfl rfl
theorem s195_33 : WP 195 0 33 [a0, a1, vI x] S h Q ↔ WP 195 0 34 [a0, a1, vI x] (vI x :: S) h Q := wp_iload rfl rfl
theorem s195_34 : WP 195 0 34 L (vI x :: vA (some a) :: S) h Q ↔ (((hk h a).1 = 1 ∧ 0 ≤ x ∧ x < ((hk h a).2 : Int)) ∧ WP 195 0 35 L (hm h a x.toNat :: S) h Q) := wp_if rfl rfl rfl
theorem s195_35 : WP 195 0 35 L (vI y :: vI x :: vA (some a) :: S) h Q ↔ (((hk h a).1 = 1 ∧ (0 ≤ x ∧ x < ((hk h a).2 : Int)) ∧ zNC ≤ a) ∧ WP 195 0 36 L S (hput h a x.toNat (vI y)) Q) := wp_if rfl rfl rfl
theorem s195_36 : WP 195 0 36 [a0, a1, vI x] S h Q ↔ WP 195 0 39 [a0, a1, vI (wr (x + 1))] S h Q := wp_iinc rfl rfl rfl
theorem s195_39 : WP 195 0 39 L S h Q ↔ WP 195 0 14 L S h Q := wp_pl rfl rfl rfl
theorem s195_42 : WP 195 0 42 [vA r, a1, a2] S h Q ↔ WP 195 0 43 [vA r, a1, a2] (vA r :: S) h Q := wp_aload rfl rfl
theorem s195_43 : WP 195 0 43 L (vA r :: S) h Q ↔ WP 195 0 44 L (vA r :: vA r :: S) h Q := wp_pl rfl rfl rfl
theorem s195_43i : WP 195 0 43 L (vI x :: S) h Q ↔ WP 195 0 44 L (vI x :: vI x :: S) h Q := wp_pl rfl rfl rfl
theorem s195_44 : WP 195 0 44 L (vA (some a) :: S) h Q ↔ (zhas 60 (hk h a) = true ∧ WP 195 0 47 L (hm h a 60 :: S) h Q) := wp_if rfl rfl rfl
theorem s195_47 : WP 195 0 47 L S h Q ↔ WP 195 0 48 L (vI 1 :: S) h Q := wp_pl rfl rfl rfl
theorem s195_48 : WP 195 0 48 L (vI y :: vI x :: S) h Q ↔ WP 195 0 49 L (vI (wr (x - y)) :: S) h Q := wp_pl rfl rfl rfl
theorem s195_49 : WP 195 0 49 L (vI x :: vA (some a) :: S) h Q ↔ ((zNC ≤ a ∧ zhas 60 (hk h a) = true) ∧ WP 195 0 52 L S (hput h a 60 (vI x)) Q) := wp_put0 rfl rfl
theorem s195_52 : WP 195 0 52 [vA r, a1, a2] S h Q ↔ WP 195 0 53 [vA r, a1, a2] (vA r :: S) h Q := wp_aload rfl rfl
theorem s195_53 : WP 195 0 53 L (vA (some a) :: S) h Q ↔ (zhas 61 (hk h a) = true ∧ WP 195 0 56 L (hm h a 61 :: S) h Q) := wp_if rfl rfl rfl
theorem s195_56 : WP 195 0 56 [a0, vI x, a2] S h Q ↔ WP 195 0 57 [a0, vI x, a2] (vI x :: S) h Q := wp_iload rfl rfl
theorem s195_57 : WP 195 0 57 [vA r, a1, a2] S h Q ↔ WP 195 0 58 [vA r, a1, a2] (vA r :: S) h Q := wp_aload rfl rfl
theorem s195_58 : WP 195 0 58 L (vA (some a) :: S) h Q ↔ (zhas 60 (hk h a) = true ∧ WP 195 0 61 L (hm h a 60 :: S) h Q) := wp_if rfl rfl rfl
theorem s195_61 : WP 195 0 61 L (vI y :: vI x :: S) h Q ↔ WP 195 0 62 L (vI (wr (x * y)) :: S) h Q := wp_pl rfl rfl rfl
theorem s195_62 : WP 195 0 62 [vA r, a1, a2] S h Q ↔ WP 195 0 63 [vA r, a1, a2] (vA r :: S) h Q := wp_aload rfl rfl
theorem s195_63 : WP 195 0 63 L (vA (some a) :: S) h Q ↔ (zhas 59 (hk h a) = true ∧ WP 195 0 66 L (hm h a 59 :: S) h Q) := wp_if rfl rfl rfl
theorem s195_66 : WP 195 0 66 L (vI y :: vI x :: vA (some a) :: S) h Q ↔ (((hk h a).1 = 1 ∧ (0 ≤ x ∧ x < ((hk h a).2 : Int)) ∧ zNC ≤ a) ∧ WP 195 0 67 L S (hput h a x.toNat (vI y)) Q) := wp_if rfl rfl rfl
theorem s195_67 : WP 195 0 67 L S h Q ↔ WP 195 0 68 L (vI 0 :: S) h Q := wp_pl rfl rfl rfl
theorem s195_68 : WP 195 0 68 [a0, a1, a2] (vI x :: S) h Q ↔ WP 195 0 69 [a0, a1, vI x] S h Q := wp_istore rfl rfl rfl
theorem s195_69 : WP 195 0 69 [a0, a1, vI x] S h Q ↔ WP 195 0 70 [a0, a1, vI x] (vI x :: S) h Q := wp_iload rfl rfl
theorem s195_70 : WP 195 0 70 [vA r, a1, a2] S h Q ↔ WP 195 0 71 [vA r, a1, a2] (vA r :: S) h Q := wp_aload rfl rfl
theorem s195_71 : WP 195 0 71 L (vA (some a) :: S) h Q ↔ (zhas 59 (hk h a) = true ∧ WP 195 0 74 L (hm h a 59 :: S) h Q) := wp_if rfl rfl rfl
theorem s195_74 : WP 195 0 74 L (vI y :: vI x :: S) h Q ↔ zif (x < y) (WP 195 0 77 L S h Q) (WP 195 0 104 L S h Q) := wp_bN zc_lt rfl rfl rfl
theorem s195_77 : WP 195 0 77 [vA r, a1, a2] S h Q ↔ WP 195 0 78 [vA r, a1, a2] (vA r :: S) h Q := wp_aload rfl rfl
theorem s195_78 : WP 195 0 78 L (vA (some a) :: S) h Q ↔ (zhas 61 (hk h a) = true ∧ WP 195 0 81 L (hm h a 61 :: S) h Q) := wp_if rfl rfl rfl
theorem s195_81 : WP 195 0 81 [a0, vI x, a2] S h Q ↔ WP 195 0 82 [a0, vI x, a2] (vI x :: S) h Q := wp_iload rfl rfl
theorem s195_82 : WP 195 0 82 [vA r, a1, a2] S h Q ↔ WP 195 0 83 [vA r, a1, a2] (vA r :: S) h Q := wp_aload rfl rfl
theorem s195_83 : WP 195 0 83 L (vA (some a) :: S) h Q ↔ (zhas 60 (hk h a) = true ∧ WP 195 0 86 L (hm h a 60 :: S) h Q) := wp_if rfl rfl rfl
theorem s195_86 : WP 195 0 86 L (vI y :: vI x :: S) h Q ↔ WP 195 0 87 L (vI (wr (x * y)) :: S) h Q := wp_pl rfl rfl rfl
theorem s195_87 : WP 195 0 87 L S h Q ↔ WP 195 0 88 L (vI 1 :: S) h Q := wp_pl rfl rfl rfl
theorem s195_88 : WP 195 0 88 L (vI y :: vI x :: S) h Q ↔ WP 195 0 89 L (vI (wr (x + y)) :: S) h Q := wp_pl rfl rfl rfl
theorem s195_89 : WP 195 0 89 [a0, a1, vI x] S h Q ↔ WP 195 0 90 [a0, a1, vI x] (vI x :: S) h Q := wp_iload rfl rfl
theorem s195_90 : WP 195 0 90 L (vI y :: vI x :: S) h Q ↔ WP 195 0 91 L (vI (wr (x + y)) :: S) h Q := wp_pl rfl rfl rfl
theorem s195_91 : WP 195 0 91 [vA r, a1, a2] S h Q ↔ WP 195 0 92 [vA r, a1, a2] (vA r :: S) h Q := wp_aload rfl rfl
theorem s195_92 : WP 195 0 92 L (vA (some a) :: S) h Q ↔ (zhas 57 (hk h a) = true ∧ WP 195 0 95 L (hm h a 57 :: S) h Q) := wp_if rfl rfl rfl
theorem s195_95 : WP 195 0 95 [a0, a1, vI x] S h Q ↔ WP 195 0 96 [a0, a1, vI x] (vI x :: S) h Q := wp_iload rfl rfl
theorem s195_96 : WP 195 0 96 L (vI x :: vA (some a) :: S) h Q ↔ (((hk h a).1 = 1 ∧ 0 ≤ x ∧ x < ((hk h a).2 : Int)) ∧ WP 195 0 97 L (hm h a x.toNat :: S) h Q) := wp_if rfl rfl rfl
theorem s195_97 : WP 195 0 97 L (vI y :: vI x :: vA (some a) :: S) h Q ↔ (((hk h a).1 = 1 ∧ (0 ≤ x ∧ x < ((hk h a).2 : Int)) ∧ zNC ≤ a) ∧ WP 195 0 98 L S (hput h a x.toNat (vI y)) Q) := wp_if rfl rfl rfl
theorem s195_98 : WP 195 0 98 [a0, a1, vI x] S h Q ↔ WP 195 0 101 [a0, a1, vI (wr (x + 1))] S h Q := wp_iinc rfl rfl rfl
theorem s195_101 : WP 195 0 101 L S h Q ↔ WP 195 0 69 L S h Q := wp_pl rfl rfl rfl
theorem s195_104 : WP 195 0 104 [vA r, a1, a2] S h Q ↔ WP 195 0 105 [vA r, a1, a2] (vA r :: S) h Q := wp_aload rfl rfl
theorem s195_105 : WP 195 0 105 L (vA r :: S) h Q ↔ WP 195 0 106 L (vA r :: vA r :: S) h Q := wp_pl rfl rfl rfl
theorem s195_105i : WP 195 0 105 L (vI x :: S) h Q ↔ WP 195 0 106 L (vI x :: vI x :: S) h Q := wp_pl rfl rfl rfl
theorem s195_106 : WP 195 0 106 L (vA (some a) :: S) h Q ↔ (zhas 60 (hk h a) = true ∧ WP 195 0 109 L (hm h a 60 :: S) h Q) := wp_if rfl rfl rfl
theorem s195_109 : WP 195 0 109 L S h Q ↔ WP 195 0 110 L (vI 1 :: S) h Q := wp_pl rfl rfl rfl
theorem s195_110 : WP 195 0 110 L (vI y :: vI x :: S) h Q ↔ WP 195 0 111 L (vI (wr (x + y)) :: S) h Q := wp_pl rfl rfl rfl
theorem s195_111 : WP 195 0 111 L (vI x :: vA (some a) :: S) h Q ↔ ((zNC ≤ a ∧ zhas 60 (hk h a) = true) ∧ WP 195 0 114 L S (hput h a 60 (vI x)) Q) := wp_put0 rfl rfl
theorem s195_114 : WP 195 0 114 L [] h Q ↔ Q (.inl none) h := wp_ret rfl
/-! RepeatFreeModel.laysBreak(II)V -/
theorem s196_0 : WP 196 0 0 [vA r, a1, a2, a3, a4] S h Q ↔ WP 196 0 1 [vA r, a1, a2, a3, a4] (vA r :: S) h Q := wp_aload rfl rfl
theorem s196_1 : WP 196 0 1 L (vA (some a) :: S) h Q ↔ ((hk h a).1 = 110 ∧ (zw S ≤ 8 ∧ WP 243 0 0 [vA (some a)] [] h (zret 196 0 1 4 L S Q))) := wp_V1 (c := 110) rfl rfl (fun _ => rfl) rfl rfl (zcan_of rfl rfl) rfl rfl rfl
theorem s196_4 : WP 196 0 4 [vA r, a1, a2, a3, a4] S h Q ↔ WP 196 0 5 [vA r, a1, a2, a3, a4] (vA r :: S) h Q := wp_aload rfl rfl
theorem s196_5 : WP 196 0 5 [a0, vI x, a2, a3, a4] S h Q ↔ WP 196 0 6 [a0, vI x, a2, a3, a4] (vI x :: S) h Q := wp_iload rfl rfl
theorem s196_6 : WP 196 0 6 L (vI x :: vA (some a) :: S) h Q ↔ ((zNC ≤ a ∧ zhas 69 (hk h a) = true) ∧ WP 196 0 9 L S (hput h a 69 (vI x)) Q) := wp_put0 rfl rfl
theorem s196_9 : WP 196 0 9 [vA r, a1, a2, a3, a4] S h Q ↔ WP 196 0 10 [vA r, a1, a2, a3, a4] (vA r :: S) h Q := wp_aload rfl rfl
theorem s196_10 : WP 196 0 10 L S h Q ↔ WP 196 0 11 L (vI 0 :: S) h Q := wp_pl rfl rfl rfl
theorem s196_11 : WP 196 0 11 L (vI x :: vA (some a) :: S) h Q ↔ ((zNC ≤ a ∧ zhas 68 (hk h a) = true) ∧ WP 196 0 14 L S (hput h a 68 (vI x)) Q) := wp_put0 rfl rfl
theorem s196_14 : WP 196 0 14 L S h Q ↔ WP 196 0 15 L (vI 1 :: S) h Q := wp_pl rfl rfl rfl
theorem s196_15 : WP 196 0 15 [a0, a1, a2, a3, a4] (vI x :: S) h Q ↔ WP 196 0 16 [a0, a1, a2, vI x, a4] S h Q := wp_istore rfl rfl rfl
theorem s196_16 : WP 196 0 16 [a0, a1, a2, vI x, a4] S h Q ↔ WP 196 0 17 [a0, a1, a2, vI x, a4] (vI x :: S) h Q := wp_iload rfl rfl
theorem s196_17 : WP 196 0 17 [a0, a1, vI x, a3, a4] S h Q ↔ WP 196 0 18 [a0, a1, vI x, a3, a4] (vI x :: S) h Q := wp_iload rfl rfl
theorem s196_18 : WP 196 0 18 L (vI y :: vI x :: S) h Q ↔ zif (y < x) (WP 196 0 55 L S h Q) (WP 196 0 21 L S h Q) := wp_bE zc_gt rfl rfl rfl
theorem s196_21 : WP 196 0 21 [vA r, a1, a2, a3, a4] S h Q ↔ WP 196 0 22 [vA r, a1, a2, a3, a4] (vA r :: S) h Q := wp_aload rfl rfl
theorem s196_22 : WP 196 0 22 L (vA (some a) :: S) h Q ↔ (zhas 67 (hk h a) = true ∧ WP 196 0 25 L (hm h a 67 :: S) h Q) := wp_if rfl rfl rfl
theorem s196_25 : WP 196 0 25 L (vI x :: S) h Q ↔ zif (x = 0) (WP 196 0 28 L S h Q) (WP 196 0 55 L S h Q) := wp_bN zc_eq rfl rfl rfl
theorem s196_28 : WP 196 0 28 [vA r, a1, a2, a3, a4] S h Q ↔ WP 196 0 29 [vA r, a1, a2, a3, a4] (vA r :: S) h Q := wp_aload rfl rfl
theorem s196_29 : WP 196 0 29 L (vA (some a) :: S) h Q ↔ (zhas 70 (hk h a) = true ∧ WP 196 0 32 L (hm h a 70 :: S) h Q) := wp_if rfl rfl rfl
theorem s196_32 : WP 196 0 32 L (vI x :: S) h Q ↔ zif (x = 0) (WP 196 0 35 L S h Q) (WP 196 0 55 L S h Q) := wp_bN zc_eq rfl rfl rfl
theorem s196_35 : WP 196 0 35 [vA r, a1, a2, a3, a4] S h Q ↔ WP 196 0 36 [vA r, a1, a2, a3, a4] (vA r :: S) h Q := wp_aload rfl rfl
theorem s196_36 : WP 196 0 36 L S h Q ↔ WP 196 0 37 L (vI 0 :: S) h Q := wp_pl rfl rfl rfl
theorem s196_37 : WP 196 0 37 [a0, a1, a2, vI x, a4] S h Q ↔ WP 196 0 38 [a0, a1, a2, vI x, a4] (vI x :: S) h Q := wp_iload rfl rfl
theorem s196_38 : WP 196 0 38 L S h Q ↔ WP 196 0 39 L (vI 5 :: S) h Q := wp_pl rfl rfl rfl
theorem s196_39 : WP 196 0 39 L (vI x2 :: vI x1 :: vI x0 :: vA (some a) :: S) h Q ↔ ((hk h a).1 = 110 ∧ (zw S ≤ 8 ∧ WP 241 44 0 [vA (some a), vI x0, vI x1, vI x2, vJ] [] h (zret 196 0 39 42 L S Q))) := wp_V1 (c := 110) rfl rfl (fun _ => rfl) rfl rfl (zcan_of rfl rfl) rfl rfl rfl
theorem s196_42 : WP 196 0 42 [a0, a1, a2, a3, a4] (vI x :: S) h Q ↔ WP 196 0 44 [a0, a1, a2, a3, vI x] S h Q := wp_istore rfl rfl rfl
theorem s196_44 : WP 196 0 44 [vA r, a1, a2, a3, a4] S h Q ↔ WP 196 0 45 [vA r, a1, a2, a3, a4] (vA r :: S) h Q := wp_aload rfl rfl
theorem s196_45 : WP 196 0 45 [a0, a1, a2, vI x, a4] S h Q ↔ WP 196 0 46 [a0, a1, a2, vI x, a4] (vI x :: S) h Q := wp_iload rfl rfl
theorem s196_46 : WP 196 0 46 L (vI x :: vA (some a) :: S) h Q ↔ ((zNC ≤ a ∧ zhas 68 (hk h a) = true) ∧ WP 196 0 49 L S (hput h a 68 (vI x)) Q) := wp_put0 rfl rfl
theorem s196_49 : WP 196 0 49 [a0, a1, a2, vI x, a4] S h Q ↔ WP 196 0 52 [a0, a1, a2, vI (wr (x + 1)), a4] S h Q := wp_iinc rfl rfl rfl
theorem s196_52 : WP 196 0 52 L S h Q ↔ WP 196 0 16 L S h Q := wp_pl rfl rfl rfl
theorem s196_55 : WP 196 0 55 L [] h Q ↔ Q (.inl none) h := wp_ret rfl
/-! RepeatFreeModel.laysCounts(II)V -/
theorem s197_0 : WP 197 0 0 L S h Q ↔ WP 197 0 1 L (vI 0 :: S) h Q := wp_pl rfl rfl rfl
theorem s197_1 : WP 197 0 1 [a0, a1, a2, a3, a4, a5, a6] (vI x :: S) h Q ↔ WP 197 0 2 [a0, a1, a2, vI x, a4, a5, a6] S h Q := wp_istore rfl rfl rfl
theorem s197_2 : WP 197 0 2 [a0, a1, a2, vI x, a4, a5, a6] S h Q ↔ WP 197 0 3 [a0, a1, a2, vI x, a4, a5, a6] (vI x :: S) h Q := wp_iload rfl rfl
theorem s197_3 : WP 197 0 3 L S h Q ↔ WP 197 0 4 L (vI 4 :: S) h Q := wp_pl rfl rfl rfl
theorem s197_4 : WP 197 0 4 L (vI y :: vI x :: S) h Q ↔ zif (x < y) (WP 197 0 7 L S h Q) (WP 197 0 51 L S h Q) := wp_bN zc_lt rfl rfl rfl
theorem s197_7 : WP 197 0 7 L S h Q ↔ WP 197 0 8 L (vI 0 :: S) h Q := wp_pl rfl rfl rfl
theorem s197_8 : WP 197 0 8 [a0, a1, a2, a3, a4, a5, a6] (vI x :: S) h Q ↔ WP 197 0 10 [a0, a1, a2, a3, vI x, a5, a6] S h Q := wp_istore rfl rfl rfl
theorem s197_10 : WP 197 0 10 [a0, a1, a2, a3, vI x, a5, a6] S h Q ↔ WP 197 0 12 [a0, a1, a2, a3, vI x, a5, a6] (vI x :: S) h Q := wp_iload rfl rfl
theorem s197_12 : WP 197 0 12 L S h Q ↔ WP 197 0 13 L (vI 4 :: S) h Q := wp_pl rfl rfl rfl
theorem s197_13 : WP 197 0 13 L (vI y :: vI x :: S) h Q ↔ zif (x < y) (WP 197 0 16 L S h Q) (WP 197 0 45 L S h Q) := wp_bN zc_lt rfl rfl rfl
theorem s197_16 : WP 197 0 16 [vA r, a1, a2, a3, a4, a5, a6] S h Q ↔ WP 197 0 17 [vA r, a1, a2, a3, a4, a5, a6] (vA r :: S) h Q := wp_aload rfl rfl
theorem s197_17 : WP 197 0 17 L (vA (some a) :: S) h Q ↔ (zhas 72 (hk h a) = true ∧ WP 197 0 20 L (hm h a 72 :: S) h Q) := wp_if rfl rfl rfl
theorem s197_20 : WP 197 0 20 L S h Q ↔ WP 197 0 21 L (vI 0 :: S) h Q := wp_pl rfl rfl rfl
theorem s197_21 : WP 197 0 21 [a0, a1, a2, vI x, a4, a5, a6] S h Q ↔ WP 197 0 22 [a0, a1, a2, vI x, a4, a5, a6] (vI x :: S) h Q := wp_iload rfl rfl
theorem s197_22 : WP 197 0 22 [a0, a1, a2, a3, vI x, a5, a6] S h Q ↔ WP 197 0 24 [a0, a1, a2, a3, vI x, a5, a6] (vI x :: S) h Q := wp_iload rfl rfl
theorem s197_24 : WP 197 0 24 L (vI x2 :: vI x1 :: vI x0 :: S) h Q ↔ (zw S ≤ 8 ∧ WP 139 0 0 [vI x0, vI x1, vI x2] [] h (zret 197 0 24 27 L S Q)) := wp_S rfl rfl (zcan_of rfl rfl) rfl rfl rfl
theorem s197_27 : WP 197 0 27 [a0, a1, a2, vI x, a4, a5, a6] S h Q ↔ WP 197 0 28 [a0, a1, a2, vI x, a4, a5, a6] (vI x :: S) h Q := wp_iload rfl rfl
theorem s197_28 : WP 197 0 28 [a0, a1, a2, a3, vI x, a5, a6] S h Q ↔ WP 197 0 30 [a0, a1, a2, a3, vI x, a5, a6] (vI x :: S) h Q := wp_iload rfl rfl
theorem s197_30 : WP 197 0 30 L (vI y :: vI x :: S) h Q ↔ zif (x = y) (WP 197 0 33 L S h Q) (WP 197 0 37 L S h Q) := wp_bN zc_eq rfl rfl rfl
theorem s197_33 : WP 197 0 33 L S h Q ↔ WP 197 0 34 L (vL 1 :: S) h Q := wp_pl rfl rfl rfl
theorem s197_34 : WP 197 0 34 L S h Q ↔ WP 197 0 38 L S h Q := wp_pl rfl rfl rfl
theorem s197_37 : WP 197 0 37 L S h Q ↔ WP 197 0 38 L (vL 0 :: S) h Q := wp_pl rfl rfl rfl
theorem s197_38 : WP 197 0 38 L (vL y :: vI x :: vA (some a) :: S) h Q ↔ (((hk h a).1 = 4 ∧ (0 ≤ x ∧ x < ((hk h a).2 : Int)) ∧ zNC ≤ a) ∧ WP 197 0 39 L S (hput h a x.toNat (vL y)) Q) := wp_if rfl rfl rfl
theorem s197_39 : WP 197 0 39 [a0, a1, a2, a3, vI x, a5, a6] S h Q ↔ WP 197 0 42 [a0, a1, a2, a3, vI (wr (x + 1)), a5, a6] S h Q := wp_iinc rfl rfl rfl
theorem s197_42 : WP 197 0 42 L S h Q ↔ WP 197 0 10 L S h Q := wp_pl rfl rfl rfl
theorem s197_45 : WP 197 0 45 [a0, a1, a2, vI x, a4, a5, a6] S h Q ↔ WP 197 0 48 [a0, a1, a2, vI (wr (x + 1)), a4, a5, a6] S h Q := wp_iinc rfl rfl rfl
theorem s197_48 : WP 197 0 48 L S h Q ↔ WP 197 0 2 L S h Q := wp_pl rfl rfl rfl
theorem s197_51 : WP 197 0 51 L S h Q ↔ WP 197 0 52 L (vI 1 :: S) h Q := wp_pl rfl rfl rfl
theorem s197_52 : WP 197 0 52 [a0, a1, a2, a3, a4, a5, a6] (vI x :: S) h Q ↔ WP 197 0 53 [a0, a1, a2, vI x, a4, a5, a6] S h Q := wp_istore rfl rfl rfl
theorem s197_53 : WP 197 0 53 [a0, a1, a2, vI x, a4, a5, a6] S h Q ↔ WP 197 0 54 [a0, a1, a2, vI x, a4, a5, a6] (vI x :: S) h Q := wp_iload rfl rfl
theorem s197_54 : WP 197 0 54 [a0, a1, vI x, a3, a4, a5, a6] S h Q ↔ WP 197 0 55 [a0, a1, vI x, a3, a4, a5, a6] (vI x :: S) h Q := wp_iload rfl rfl
theorem s197_55 : WP 197 0 55 L (vI y :: vI x :: S) h Q ↔ zif (y < x) (WP 197 0 172 L S h Q) (WP 197 0 58 L S h Q) := wp_bE zc_gt rfl rfl rfl
theorem s197_58 : WP 197 0 58 L S h Q ↔ WP 197 0 59 L (vI 0 :: S) h Q := wp_pl rfl rfl rfl
theorem s197_59 : WP 197 0 59 [a0, a1, a2, a3, a4, a5, a6] (vI x :: S) h Q ↔ WP 197 0 61 [a0, a1, a2, a3, vI x, a5, a6] S h Q := wp_istore rfl rfl rfl
theorem s197_61 : WP 197 0 61 [a0, a1, a2, a3, vI x, a5, a6] S h Q ↔ WP 197 0 63 [a0, a1, a2, a3, vI x, a5, a6] (vI x :: S) h Q := wp_iload rfl rfl
theorem s197_63 : WP 197 0 63 [vA r, a1, a2, a3, a4, a5, a6] S h Q ↔ WP 197 0 64 [vA r, a1, a2, a3, a4, a5, a6] (vA r :: S) h Q := wp_aload rfl rfl
theorem s197_64 : WP 197 0 64 L (vA (some a) :: S) h Q ↔ (zhas 54 (hk h a) = true ∧ WP 197 0 67 L (hm h a 54 :: S) h Q) := wp_if rfl rfl rfl
theorem s197_67 : WP 197 0 67 L S h Q ↔ WP 197 0 68 L (vI 0 :: S) h Q := wp_pl rfl rfl rfl
theorem s197_68 : WP 197 0 68 L (vI x :: vA (some a) :: S) h Q ↔ (((hk h a).1 = 1 ∧ 0 ≤ x ∧ x < ((hk h a).2 : Int)) ∧ WP 197 0 69 L (hm h a x.toNat :: S) h Q) := wp_if rfl rfl rfl
theorem s197_69 : WP 197 0 69 L (vI y :: vI x :: S) h Q ↔ zif (x < y) (WP 197 0 72 L S h Q) (WP 197 0 166 L S h Q) := wp_bN zc_lt rfl rfl rfl
theorem s197_72 : WP 197 0 72 L S h Q ↔ WP 197 0 73 L (vI 0 :: S) h Q := wp_pl rfl rfl rfl
theorem s197_73 : WP 197 0 73 [a0, a1, a2, a3, a4, a5, a6] (vI x :: S) h Q ↔ WP 197 0 75 [a0, a1, a2, a3, a4, vI x, a6] S h Q := wp_istore rfl rfl rfl
theorem s197_75 : WP 197 0 75 [a0, a1, a2, a3, a4, vI x, a6] S h Q ↔ WP 197 0 77 [a0, a1, a2, a3, a4, vI x, a6] (vI x :: S) h Q := wp_iload rfl rfl
theorem s197_77 : WP 197 0 77 L S h Q ↔ WP 197 0 78 L (vI 4 :: S) h Q := wp_pl rfl rfl rfl
theorem s197_78 : WP 197 0 78 L (vI y :: vI x :: S) h Q ↔ zif (x < y) (WP 197 0 81 L S h Q) (WP 197 0 160 L S h Q) := wp_bN zc_lt rfl rfl rfl
theorem s197_81 : WP 197 0 81 [vA r, a1, a2, a3, a4, a5, a6] S h Q ↔ WP 197 0 82 [vA r, a1, a2, a3, a4, a5, a6] (vA r :: S) h Q := wp_aload rfl rfl
theorem s197_82 : WP 197 0 82 L (vA (some a) :: S) h Q ↔ (zhas 72 (hk h a) = true ∧ WP 197 0 85 L (hm h a 72 :: S) h Q) := wp_if rfl rfl rfl
theorem s197_85 : WP 197 0 85 [a0, a1, a2, vI x, a4, a5, a6] S h Q ↔ WP 197 0 86 [a0, a1, a2, vI x, a4, a5, a6] (vI x :: S) h Q := wp_iload rfl rfl
theorem s197_86 : WP 197 0 86 [a0, a1, a2, a3, vI x, a5, a6] S h Q ↔ WP 197 0 88 [a0, a1, a2, a3, vI x, a5, a6] (vI x :: S) h Q := wp_iload rfl rfl
theorem s197_88 : WP 197 0 88 [a0, a1, a2, a3, a4, vI x, a6] S h Q ↔ WP 197 0 90 [a0, a1, a2, a3, a4, vI x, a6] (vI x :: S) h Q := wp_iload rfl rfl
theorem s197_90 : WP 197 0 90 L (vI x2 :: vI x1 :: vI x0 :: S) h Q ↔ (zw S ≤ 8 ∧ WP 139 0 0 [vI x0, vI x1, vI x2] [] h (zret 197 0 90 93 L S Q)) := wp_S rfl rfl (zcan_of rfl rfl) rfl rfl rfl
theorem s197_93 : WP 197 0 93 L S h Q ↔ WP 197 0 94 L (vL 0 :: S) h Q := wp_pl rfl rfl rfl
theorem s197_94 : WP 197 0 94 L (vL y :: vI x :: vA (some a) :: S) h Q ↔ (((hk h a).1 = 4 ∧ (0 ≤ x ∧ x < ((hk h a).2 : Int)) ∧ zNC ≤ a) ∧ WP 197 0 95 L S (hput h a x.toNat (vL y)) Q) := wp_if rfl rfl rfl
theorem s197_95 : WP 197 0 95 L S h Q ↔ WP 197 0 96 L (vI 0 :: S) h Q := wp_pl rfl rfl rfl
theorem s197_96 : WP 197 0 96 [a0, a1, a2, a3, a4, a5, a6] (vI x :: S) h Q ↔ WP 197 0 98 [a0, a1, a2, a3, a4, a5, vI x] S h Q := wp_istore rfl rfl rfl
theorem s197_98 : WP 197 0 98 [a0, a1, a2, a3, a4, a5, vI x] S h Q ↔ WP 197 0 100 [a0, a1, a2, a3, a4, a5, vI x] (vI x :: S) h Q := wp_iload rfl rfl
theorem s197_100 : WP 197 0 100 [vA r, a1, a2, a3, a4, a5, a6] S h Q ↔ WP 197 0 101 [vA r, a1, a2, a3, a4, a5, a6] (vA r :: S) h Q := wp_aload rfl rfl
theorem s197_101 : WP 197 0 101 [a0, vI x, a2, a3, a4, a5, a6] S h Q ↔ WP 197 0 102 [a0, vI x, a2, a3, a4, a5, a6] (vI x :: S) h Q := wp_iload rfl rfl
theorem s197_102 : WP 197 0 102 [a0, a1, a2, a3, vI x, a5, a6] S h Q ↔ WP 197 0 104 [a0, a1, a2, a3, vI x, a5, a6] (vI x :: S) h Q := wp_iload rfl rfl
theorem s197_104 : WP 197 0 104 L (vI x1 :: vI x0 :: vA (some a) :: S) h Q ↔ ((hk h a).1 = 110 ∧ (zw S ≤ 8 ∧ WP 210 0 0 [vA (some a), vI x0, vI x1] [] h (zret 197 0 104 107 L S Q))) := wp_V1 (c := 110) rfl rfl (fun _ => rfl) rfl rfl (zcan_of rfl rfl) rfl rfl rfl
theorem s197_107 : WP 197 0 107 L (vI y :: vI x :: S) h Q ↔ zif (x < y) (WP 197 0 110 L S h Q) (WP 197 0 154 L S h Q) := wp_bN zc_lt rfl rfl rfl
theorem s197_110 : WP 197 0 110 [vA r, a1, a2, a3, a4, a5, a6] S h Q ↔ WP 197 0 111 [vA r, a1, a2, a3, a4, a5, a6] (vA r :: S) h Q := wp_aload rfl rfl
theorem s197_111 : WP 197 0 111 L (vA (some a) :: S) h Q ↔ (zhas 72 (hk h a) = true ∧ WP 197 0 114 L (hm h a 72 :: S) h Q) := wp_if rfl rfl rfl
theorem s197_114 : WP 197 0 114 [a0, a1, a2, vI x, a4, a5, a6] S h Q ↔ WP 197 0 115 [a0, a1, a2, vI x, a4, a5, a6] (vI x :: S) h Q := wp_iload rfl rfl
theorem s197_115 : WP 197 0 115 [a0, a1, a2, a3, vI x, a5, a6] S h Q ↔ WP 197 0 117 [a0, a1, a2, a3, vI x, a5, a6] (vI x :: S) h Q := wp_iload rfl rfl
theorem s197_117 : WP 197 0 117 [a0, a1, a2, a3, a4, vI x, a6] S h Q ↔ WP 197 0 119 [a0, a1, a2, a3, a4, vI x, a6] (vI x :: S) h Q := wp_iload rfl rfl
theorem s197_119 : WP 197 0 119 L (vI x2 :: vI x1 :: vI x0 :: S) h Q ↔ (zw S ≤ 8 ∧ WP 139 0 0 [vI x0, vI x1, vI x2] [] h (zret 197 0 119 122 L S Q)) := wp_S rfl rfl (zcan_of rfl rfl) rfl rfl rfl
theorem s197_122 : WP 197 0 122 L (vI y :: vA r :: S) h Q ↔ WP 197 0 123 L (vI y :: vA r :: vI y :: vA r :: S) h Q := wp_pl rfl rfl rfl
theorem s197_122l : WP 197 0 122 L (vL x :: S) h Q ↔ WP 197 0 123 L (vL x :: vL x :: S) h Q := wp_pl rfl rfl rfl
theorem s197_123 : WP 197 0 123 L (vI x :: vA (some a) :: S) h Q ↔ (((hk h a).1 = 4 ∧ 0 ≤ x ∧ x < ((hk h a).2 : Int)) ∧ WP 197 0 124 L (hm h a x.toNat :: S) h Q) := wp_if rfl rfl rfl
theorem s197_124 : WP 197 0 124 [vA r, a1, a2, a3, a4, a5, a6] S h Q ↔ WP 197 0 125 [vA r, a1, a2, a3, a4, a5, a6] (vA r :: S) h Q := wp_aload rfl rfl
theorem s197_125 : WP 197 0 125 L (vA (some a) :: S) h Q ↔ (zhas 72 (hk h a) = true ∧ WP 197 0 128 L (hm h a 72 :: S) h Q) := wp_if rfl rfl rfl
theorem s197_128 : WP 197 0 128 [a0, a1, a2, vI x, a4, a5, a6] S h Q ↔ WP 197 0 129 [a0, a1, a2, vI x, a4, a5, a6] (vI x :: S) h Q := wp_iload rfl rfl
theorem s197_129 : WP 197 0 129 L S h Q ↔ WP 197 0 130 L (vI 1 :: S) h Q := wp_pl rfl rfl rfl
theorem s197_130 : WP 197 0 130 L (vI y :: vI x :: S) h Q ↔ WP 197 0 131 L (vI (wr (x - y)) :: S) h Q := wp_pl rfl rfl rfl
theorem s197_131 : WP 197 0 131 [vA r, a1, a2, a3, a4, a5, a6] S h Q ↔ WP 197 0 132 [vA r, a1, a2, a3, a4, a5, a6] (vA r :: S) h Q := wp_aload rfl rfl
theorem s197_132 : WP 197 0 132 [a0, vI x, a2, a3, a4, a5, a6] S h Q ↔ WP 197 0 133 [a0, vI x, a2, a3, a4, a5, a6] (vI x :: S) h Q := wp_iload rfl rfl
theorem s197_133 : WP 197 0 133 [a0, a1, a2, a3, vI x, a5, a6] S h Q ↔ WP 197 0 135 [a0, a1, a2, a3, vI x, a5, a6] (vI x :: S) h Q := wp_iload rfl rfl
theorem s197_135 : WP 197 0 135 [a0, a1, a2, a3, a4, a5, vI x] S h Q ↔ WP 197 0 137 [a0, a1, a2, a3, a4, a5, vI x] (vI x :: S) h Q := wp_iload rfl rfl
theorem s197_137 : WP 197 0 137 L (vI x2 :: vI x1 :: vI x0 :: vA (some a) :: S) h Q ↔ ((hk h a).1 = 110 ∧ (zw S ≤ 8 ∧ WP 180 0 0 [vA (some a), vI x0, vI x1, vI x2] [] h (zret 197 0 137 140 L S Q))) := wp_V1 (c := 110) rfl rfl (fun _ => rfl) rfl rfl (zcan_of rfl rfl) rfl rfl rfl
theorem s197_140 : WP 197 0 140 [a0, a1, a2, a3, a4, vI x, a6] S h Q ↔ WP 197 0 142 [a0, a1, a2, a3, a4, vI x, a6] (vI x :: S) h Q := wp_iload rfl rfl
theorem s197_142 : WP 197 0 142 L (vI x2 :: vI x1 :: vI x0 :: S) h Q ↔ (zw S ≤ 8 ∧ WP 139 0 0 [vI x0, vI x1, vI x2] [] h (zret 197 0 142 145 L S Q)) := wp_S rfl rfl (zcan_of rfl rfl) rfl rfl rfl
theorem s197_145 : WP 197 0 145 L (vI x :: vA (some a) :: S) h Q ↔ (((hk h a).1 = 4 ∧ 0 ≤ x ∧ x < ((hk h a).2 : Int)) ∧ WP 197 0 146 L (hm h a x.toNat :: S) h Q) := wp_if rfl rfl rfl
theorem s197_146 : WP 197 0 146 L (vL y :: vL x :: S) h Q ↔ WP 197 0 147 L (vL (wl (x + y)) :: S) h Q := wp_pl rfl rfl rfl
theorem s197_147 : WP 197 0 147 L (vL y :: vI x :: vA (some a) :: S) h Q ↔ (((hk h a).1 = 4 ∧ (0 ≤ x ∧ x < ((hk h a).2 : Int)) ∧ zNC ≤ a) ∧ WP 197 0 148 L S (hput h a x.toNat (vL y)) Q) := wp_if rfl rfl rfl
theorem s197_148 : WP 197 0 148 [a0, a1, a2, a3, a4, a5, vI x] S h Q ↔ WP 197 0 151 [a0, a1, a2, a3, a4, a5, vI (wr (x + 1))] S h Q := wp_iinc rfl rfl rfl
theorem s197_151 : WP 197 0 151 L S h Q ↔ WP 197 0 98 L S h Q := wp_pl rfl rfl rfl
theorem s197_154 : WP 197 0 154 [a0, a1, a2, a3, a4, vI x, a6] S h Q ↔ WP 197 0 157 [a0, a1, a2, a3, a4, vI (wr (x + 1)), a6] S h Q := wp_iinc rfl rfl rfl
theorem s197_157 : WP 197 0 157 L S h Q ↔ WP 197 0 75 L S h Q := wp_pl rfl rfl rfl
theorem s197_160 : WP 197 0 160 [a0, a1, a2, a3, vI x, a5, a6] S h Q ↔ WP 197 0 163 [a0, a1, a2, a3, vI (wr (x + 1)), a5, a6] S h Q := wp_iinc rfl rfl rfl
theorem s197_163 : WP 197 0 163 L S h Q ↔ WP 197 0 61 L S h Q := wp_pl rfl rfl rfl
theorem s197_166 : WP 197 0 166 [a0, a1, a2, vI x, a4, a5, a6] S h Q ↔ WP 197 0 169 [a0, a1, a2, vI (wr (x + 1)), a4, a5, a6] S h Q := wp_iinc rfl rfl rfl
theorem s197_169 : WP 197 0 169 L S h Q ↔ WP 197 0 53 L S h Q := wp_pl rfl rfl rfl
theorem s197_172 : WP 197 0 172 L [] h Q ↔ Q (.inl none) h := wp_ret rfl
/-! RepeatFreeModel.laysGiven(I)V -/
theorem s198_0 : WP 198 0 0 L S h Q ↔ WP 198 0 1 L (vI 0 :: S) h Q := wp_pl rfl rfl rfl
theorem s198_1 : WP 198 0 1 [a0, a1, a2] (vI x :: S) h Q ↔ WP 198 0 2 [a0, a1, vI x] S h Q := wp_istore rfl rfl rfl
theorem s198_2 : WP 198 0 2 [a0, a1, vI x] S h Q ↔ WP 198 0 3 [a0, a1, vI x] (vI x :: S) h Q := wp_iload rfl rfl
theorem s198_3 : WP 198 0 3 [a0, vI x, a2] S h Q ↔ WP 198 0 4 [a0, vI x, a2] (vI x :: S) h Q := wp_iload rfl rfl
theorem s198_4 : WP 198 0 4 L (vI y :: vI x :: S) h Q ↔ zif (x < y) (WP 198 0 7 L S h Q) (WP 198 0 25 L S h Q) := wp_bN zc_lt rfl rfl rfl
theorem s198_7 : WP 198 0 7 [vA r, a1, a2] S h Q ↔ WP 198 0 8 [vA r, a1, a2] (vA r :: S) h Q := wp_aload rfl rfl
theorem s198_8 : WP 198 0 8 L (vA (some a) :: S) h Q ↔ (zhas 58 (hk h a) = true ∧ WP 198 0 11 L (hm h a 58 :: S) h Q) := wp_if rfl rfl rfl
theorem s198_11 : WP 198 0 11 [a0, a1, vI x] S h Q ↔ WP 198 0 12 [a0, a1, vI x] (vI x :: S) h Q := wp_iload rfl rfl
theorem s198_12 : WP 198 0 12 [vA r, a1, a2] S h Q ↔ WP 198 0 13 [vA r, a1, a2] (vA r :: S) h Q := wp_aload rfl rfl
theorem s198_13 : WP 198 0 13 L (vA (some a) :: S) h Q ↔ (zhas 57 (hk h a) = true ∧ WP 198 0 16 L (hm h a 57 :: S) h Q) := wp_if rfl rfl rfl
theorem s198_16 : WP 198 0 16 [a0, a1, vI x] S h Q ↔ WP 198 0 17 [a0, a1, vI x] (vI x :: S) h Q := wp_iload rfl rfl
theorem s198_17 : WP 198 0 17 L (vI x :: vA (some a) :: S) h Q ↔ (((hk h a).1 = 1 ∧ 0 ≤ x ∧ x < ((hk h a).2 : Int)) ∧ WP 198 0 18 L (hm h a x.toNat :: S) h Q) := wp_if rfl rfl rfl
theorem s198_18 : WP 198 0 18 L (vI y :: vI x :: vA (some a) :: S) h Q ↔ (((hk h a).1 = 1 ∧ (0 ≤ x ∧ x < ((hk h a).2 : Int)) ∧ zNC ≤ a) ∧ WP 198 0 19 L S (hput h a x.toNat (vI y)) Q) := wp_if rfl rfl rfl
theorem s198_19 : WP 198 0 19 [a0, a1, vI x] S h Q ↔ WP 198 0 22 [a0, a1, vI (wr (x + 1))] S h Q := wp_iinc rfl rfl rfl
theorem s198_22 : WP 198 0 22 L S h Q ↔ WP 198 0 2 L S h Q := wp_pl rfl rfl rfl
theorem s198_25 : WP 198 0 25 L [] h Q ↔ Q (.inl none) h := wp_ret rfl
/-! RepeatFreeModel.length(III)J -/
theorem s199_0 : WP 199 0 0 [vA r, a1, a2, a3] S h Q ↔ WP 199 0 1 [vA r, a1, a2, a3] (vA r :: S) h Q := wp_aload rfl rfl
theorem s199_1 : WP 199 0 1 L S h Q ↔ WP 199 0 2 L (vI 0 :: S) h Q := wp_pl rfl rfl rfl
theorem s199_2 : WP 199 0 2 L (vI x :: vA (some a) :: S) h Q ↔ ((zNC ≤ a ∧ zhas 45 (hk h a) = true) ∧ WP 199 0 5 L S (hput h a 45 (vI x)) Q) := wp_put0 rfl rfl
theorem s199_5 : WP 199 0 5 [vA r, a1, a2, a3] S h Q ↔ WP 199 0 6 [vA r, a1, a2, a3] (vA r :: S) h Q := wp_aload rfl rfl
theorem s199_6 : WP 199 0 6 [a0, vI x, a2, a3] S h Q ↔ WP 199 0 7 [a0, vI x, a2, a3] (vI x :: S) h Q := wp_iload rfl rfl
theorem s199_7 : WP 199 0 7 [a0, a1, vI x, a3] S h Q ↔ WP 199 0 8 [a0, a1, vI x, a3] (vI x :: S) h Q := wp_iload rfl rfl
theorem s199_8 : WP 199 0 8 [a0, a1, a2, vI x] S h Q ↔ WP 199 0 9 [a0, a1, a2, vI x] (vI x :: S) h Q := wp_iload rfl rfl
theorem s199_9 : WP 199 0 9 L (vI x2 :: vI x1 :: vI x0 :: vA (some a) :: S) h Q ↔ ((hk h a).1 = 110 ∧ (zw S ≤ 8 ∧ WP 225 0 0 [vA (some a), vI x0, vI x1, vI x2] [] h (zret 199 0 9 12 L S Q))) := wp_V1 (c := 110) rfl rfl (fun _ => rfl) rfl rfl (zcan_of rfl rfl) rfl rfl rfl
theorem s199_12 : WP 199 0 12 L (vI x :: S) h Q ↔ zif (x = 0) (WP 199 0 17 L S h Q) (WP 199 0 15 L S h Q) := wp_bE zc_eq rfl rfl rfl
theorem s199_15 : WP 199 0 15 L S h Q ↔ WP 199 0 16 L (vL 0 :: S) h Q := wp_pl rfl rfl rfl
theorem s199_16 : WP 199 0 16 L [vL x] h Q ↔ Q (.inl (some (vL x))) h := wp_lret rfl
theorem s199_17 : WP 199 0 17 [vA r, a1, a2, a3] S h Q ↔ WP 199 0 18 [vA r, a1, a2, a3] (vA r :: S) h Q := wp_aload rfl rfl
theorem s199_18 : WP 199 0 18 [a0, vI x, a2, a3] S h Q ↔ WP 199 0 19 [a0, vI x, a2, a3] (vI x :: S) h Q := wp_iload rfl rfl
theorem s199_19 : WP 199 0 19 [a0, a1, a2, vI x] S h Q ↔ WP 199 0 20 [a0, a1, a2, vI x] (vI x :: S) h Q := wp_iload rfl rfl
theorem s199_20 : WP 199 0 20 L (vI x1 :: vI x0 :: vA (some a) :: S) h Q ↔ ((hk h a).1 = 110 ∧ (zw S ≤ 8 ∧ WP 197 0 0 [vA (some a), vI x0, vI x1, vJ, vJ, vJ, vJ] [] h (zret 199 0 20 23 L S Q))) := wp_V1 (c := 110) rfl rfl (fun _ => rfl) rfl rfl (zcan_of rfl rfl) rfl rfl rfl
theorem s199_23 : WP 199 0 23 [vA r, a1, a2, a3] S h Q ↔ WP 199 0 24 [vA r, a1, a2, a3] (vA r :: S) h Q := wp_aload rfl rfl
theorem s199_24 : WP 199 0 24 [a0, a1, a2, vI x] S h Q ↔ WP 199 0 25 [a0, a1, a2, vI x] (vI x :: S) h Q := wp_iload rfl rfl
theorem s199_25 : WP 199 0 25 [a0, a1, vI x, a3] S h Q ↔ WP 199 0 26 [a0, a1, vI x, a3] (vI x :: S) h Q := wp_iload rfl rfl
theorem s199_26 : WP 199 0 26 L (vI x1 :: vI x0 :: vA (some a) :: S) h Q ↔ ((hk h a).1 = 110 ∧ (zw S ≤ 8 ∧ WP 200 0 0 [vA (some a), vI x0, vI x1, vJ, vJ, vJ] [] h (zret 199 0 26 29 L S Q))) := wp_V1 (c := 110) rfl rfl (fun _ => rfl) rfl rfl (zcan_of rfl rfl) rfl rfl rfl
theorem s199_29 : WP 199 0 29 L [vL x] h Q ↔ Q (.inl (some (vL x))) h := wp_lret rfl
/-! RepeatFreeModel.lengthOf(II)J -/
theorem s200_0 : WP 200 0 0 L S h Q ↔ WP 200 0 1 L (vL 0 :: S) h Q := wp_pl rfl rfl rfl
theorem s200_1 : WP 200 0 1 [a0, a1, a2, a3, a4, a5] (vL x :: S) h Q ↔ WP 200 0 2 [a0, a1, a2, vL x, vJ, a5] S h Q := wp_lstore rfl rfl rfl
theorem s200_2 : WP 200 0 2 L S h Q ↔ WP 200 0 3 L (vI 0 :: S) h Q := wp_pl rfl rfl rfl
theorem s200_3 : WP 200 0 3 [a0, a1, a2, a3, a4, a5] (vI x :: S) h Q ↔ WP 200 0 5 [a0, a1, a2, a3, a4, vI x] S h Q := wp_istore rfl rfl rfl
theorem s200_5 : WP 200 0 5 [a0, a1, a2, a3, a4, vI x] S h Q ↔ WP 200 0 7 [a0, a1, a2, a3, a4, vI x] (vI x :: S) h Q := wp_iload rfl rfl
theorem s200_7 : WP 200 0 7 L S h Q ↔ WP 200 0 8 L (vI 4 :: S) h Q := wp_pl rfl rfl rfl
theorem s200_8 : WP 200 0 8 L (vI y :: vI x :: S) h Q ↔ zif (x < y) (WP 200 0 11 L S h Q) (WP 200 0 32 L S h Q) := wp_bN zc_lt rfl rfl rfl
theorem s200_11 : WP 200 0 11 [a0, a1, a2, vL x, vJ, a5] S h Q ↔ WP 200 0 12 [a0, a1, a2, vL x, vJ, a5] (vL x :: S) h Q := wp_lload rfl rfl rfl
theorem s200_12 : WP 200 0 12 [vA r, a1, a2, a3, a4, a5] S h Q ↔ WP 200 0 13 [vA r, a1, a2, a3, a4, a5] (vA r :: S) h Q := wp_aload rfl rfl
theorem s200_13 : WP 200 0 13 L (vA (some a) :: S) h Q ↔ (zhas 72 (hk h a) = true ∧ WP 200 0 16 L (hm h a 72 :: S) h Q) := wp_if rfl rfl rfl
theorem s200_16 : WP 200 0 16 [a0, vI x, a2, a3, a4, a5] S h Q ↔ WP 200 0 17 [a0, vI x, a2, a3, a4, a5] (vI x :: S) h Q := wp_iload rfl rfl
theorem s200_17 : WP 200 0 17 [a0, a1, vI x, a3, a4, a5] S h Q ↔ WP 200 0 18 [a0, a1, vI x, a3, a4, a5] (vI x :: S) h Q := wp_iload rfl rfl
theorem s200_18 : WP 200 0 18 [a0, a1, a2, a3, a4, vI x] S h Q ↔ WP 200 0 20 [a0, a1, a2, a3, a4, vI x] (vI x :: S) h Q := wp_iload rfl rfl
theorem s200_20 : WP 200 0 20 L (vI x2 :: vI x1 :: vI x0 :: S) h Q ↔ (zw S ≤ 8 ∧ WP 139 0 0 [vI x0, vI x1, vI x2] [] h (zret 200 0 20 23 L S Q)) := wp_S rfl rfl (zcan_of rfl rfl) rfl rfl rfl
theorem s200_23 : WP 200 0 23 L (vI x :: vA (some a) :: S) h Q ↔ (((hk h a).1 = 4 ∧ 0 ≤ x ∧ x < ((hk h a).2 : Int)) ∧ WP 200 0 24 L (hm h a x.toNat :: S) h Q) := wp_if rfl rfl rfl
theorem s200_24 : WP 200 0 24 L (vL y :: vL x :: S) h Q ↔ WP 200 0 25 L (vL (wl (x + y)) :: S) h Q := wp_pl rfl rfl rfl
theorem s200_25 : WP 200 0 25 [a0, a1, a2, a3, a4, a5] (vL x :: S) h Q ↔ WP 200 0 26 [a0, a1, a2, vL x, vJ, a5] S h Q := wp_lstore rfl rfl rfl
theorem s200_26 : WP 200 0 26 [a0, a1, a2, a3, a4, vI x] S h Q ↔ WP 200 0 29 [a0, a1, a2, a3, a4, vI (wr (x + 1))] S h Q := wp_iinc rfl rfl rfl
theorem s200_29 : WP 200 0 29 L S h Q ↔ WP 200 0 5 L S h Q := wp_pl rfl rfl rfl
theorem s200_32 : WP 200 0 32 [a0, a1, a2, vL x, vJ, a5] S h Q ↔ WP 200 0 33 [a0, a1, a2, vL x, vJ, a5] (vL x :: S) h Q := wp_lload rfl rfl rfl
theorem s200_33 : WP 200 0 33 L [vL x] h Q ↔ Q (.inl (some (vL x))) h := wp_lret rfl
/-! RepeatFreeModel.letter(I)I -/
theorem s201_0 : WP 201 0 0 [vA r, a1] S h Q ↔ WP 201 0 1 [vA r, a1] (vA r :: S) h Q := wp_aload rfl rfl
theorem s201_1 : WP 201 0 1 L S h Q ↔ WP 201 0 2 L (vI 0 :: S) h Q := wp_pl rfl rfl rfl
theorem s201_2 : WP 201 0 2 L (vI x :: vA (some a) :: S) h Q ↔ ((zNC ≤ a ∧ zhas 45 (hk h a) = true) ∧ WP 201 0 5 L S (hput h a 45 (vI x)) Q) := wp_put0 rfl rfl
theorem s201_5 : WP 201 0 5 [a0, vI x] S h Q ↔ WP 201 0 6 [a0, vI x] (vI x :: S) h Q := wp_iload rfl rfl
theorem s201_6 : WP 201 0 6 L S h Q ↔ WP 201 0 7 L (vI 0 :: S) h Q := wp_pl rfl rfl rfl
theorem s201_7 : WP 201 0 7 [vA r, a1] S h Q ↔ WP 201 0 8 [vA r, a1] (vA r :: S) h Q := wp_aload rfl rfl
theorem s201_8 : WP 201 0 8 L (vA (some a) :: S) h Q ↔ (zhas 59 (hk h a) = true ∧ WP 201 0 11 L (hm h a 59 :: S) h Q) := wp_if rfl rfl rfl
theorem s201_11 : WP 201 0 11 L S h Q ↔ WP 201 0 12 L (vI 1 :: S) h Q := wp_pl rfl rfl rfl
theorem s201_12 : WP 201 0 12 L (vI y :: vI x :: S) h Q ↔ WP 201 0 13 L (vI (wr (x - y)) :: S) h Q := wp_pl rfl rfl rfl
theorem s201_13 : WP 201 0 13 L (vI x2 :: vI x1 :: vI x0 :: S) h Q ↔ (zw S ≤ 8 ∧ WP 183 0 0 [vI x0, vI x1, vI x2] [] h (zret 201 0 13 16 L S Q)) := wp_S rfl rfl (zcan_of rfl rfl) rfl rfl rfl
theorem s201_16 : WP 201 0 16 L (vI x :: S) h Q ↔ zif (x = 0) (WP 201 0 28 L S h Q) (WP 201 0 19 L S h Q) := wp_bE zc_eq rfl rfl rfl
theorem s201_19 : WP 201 0 19 [vA r, a1] S h Q ↔ WP 201 0 20 [vA r, a1] (vA r :: S) h Q := wp_aload rfl rfl
theorem s201_20 : WP 201 0 20 L (vA (some a) :: S) h Q ↔ (zhas 57 (hk h a) = true ∧ WP 201 0 23 L (hm h a 57 :: S) h Q) := wp_if rfl rfl rfl
theorem s201_23 : WP 201 0 23 [a0, vI x] S h Q ↔ WP 201 0 24 [a0, vI x] (vI x :: S) h Q := wp_iload rfl rfl
theorem s201_24 : WP 201 0 24 L (vI x :: vA (some a) :: S) h Q ↔ (((hk h a).1 = 1 ∧ 0 ≤ x ∧ x < ((hk h a).2 : Int)) ∧ WP 201 0 25 L (hm h a x.toNat :: S) h Q) := wp_if rfl rfl rfl
theorem s201_25 : WP 201 0 25 L S h Q ↔ WP 201 0 29 L S h Q := wp_pl rfl rfl rfl
theorem s201_28 : WP 201 0 28 L S h Q ↔ WP 201 0 29 L (vI (-1) :: S) h Q := wp_pl rfl rfl rfl
theorem s201_29 : WP 201 0 29 L [vI x] h Q ↔ Q (.inl (some (vI x))) h := wp_iret0 rfl rfl
/-! RepeatFreeModel.letterOf(II)I -/
theorem s202_0 : WP 202 0 0 [vA r, a1, a2] S h Q ↔ WP 202 0 1 [vA r, a1, a2] (vA r :: S) h Q := wp_aload rfl rfl
theorem s202_1 : WP 202 0 1 L (vA (some a) :: S) h Q ↔ (zhas 54 (hk h a) = true ∧ WP 202 0 4 L (hm h a 54 :: S) h Q) := wp_if rfl rfl rfl
theorem s202_4 : WP 202 0 4 L S h Q ↔ WP 202 0 7 L (vI 170 :: S) h Q := wp_pl rfl rfl rfl
theorem s202_7 : WP 202 0 7 L S h Q ↔ WP 202 0 9 L (vI 6 :: S) h Q := wp_pl rfl rfl rfl
theorem s202_9 : WP 202 0 9 [a0, vI x, a2] S h Q ↔ WP 202 0 10 [a0, vI x, a2] (vI x :: S) h Q := wp_iload rfl rfl
theorem s202_10 : WP 202 0 10 L (vI y :: vI x :: S) h Q ↔ WP 202 0 11 L (vI (wr (x * y)) :: S) h Q := wp_pl rfl rfl rfl
theorem s202_11 : WP 202 0 11 L (vI y :: vI x :: S) h Q ↔ WP 202 0 12 L (vI (wr (x + y)) :: S) h Q := wp_pl rfl rfl rfl
theorem s202_12 : WP 202 0 12 [a0, a1, vI x] S h Q ↔ WP 202 0 13 [a0, a1, vI x] (vI x :: S) h Q := wp_iload rfl rfl
theorem s202_13 : WP 202 0 13 L (vI y :: vI x :: S) h Q ↔ WP 202 0 14 L (vI (wr (x + y)) :: S) h Q := wp_pl rfl rfl rfl
theorem s202_14 : WP 202 0 14 L (vI x :: vA (some a) :: S) h Q ↔ (((hk h a).1 = 1 ∧ 0 ≤ x ∧ x < ((hk h a).2 : Int)) ∧ WP 202 0 15 L (hm h a x.toNat :: S) h Q) := wp_if rfl rfl rfl
theorem s202_15 : WP 202 0 15 L [vI x] h Q ↔ Q (.inl (some (vI x))) h := wp_iret0 rfl rfl
/-! RepeatFreeModel.letters(II[II)I -/
theorem s203_0 : WP 203 0 0 [vA r, a1, a2, a3, a4, a5, a6, a7] S h Q ↔ WP 203 0 1 [vA r, a1, a2, a3, a4, a5, a6, a7] (vA r :: S) h Q := wp_aload rfl rfl
theorem s203_1 : WP 203 0 1 L (vA (some a) :: S) h Q ↔ ((hk h a).1 = 110 ∧ (zw S ≤ 8 ∧ WP 254 0 0 [vA (some a), vJ] [] h (zret 203 0 1 4 L S Q))) := wp_V1 (c := 110) rfl rfl (fun _ => rfl) rfl rfl (zcan_of rfl rfl) rfl rfl rfl
theorem s203_4 : WP 203 0 4 [a0, a1, a2, a3, a4, a5, a6, a7] (vI x :: S) h Q ↔ WP 203 0 6 [a0, a1, a2, a3, a4, vI x, a6, a7] S h Q := wp_istore rfl rfl rfl
theorem s203_6 : WP 203 0 6 [vA r, a1, a2, a3, a4, a5, a6, a7] S h Q ↔ WP 203 0 7 [vA r, a1, a2, a3, a4, a5, a6, a7] (vA r :: S) h Q := wp_aload rfl rfl
theorem s203_7 : WP 203 0 7 L (vA (some a) :: S) h Q ↔ ((hk h a).1 = 110 ∧ (zw S ≤ 8 ∧ WP 177 0 0 [vA (some a)] [] h (zret 203 0 7 10 L S Q))) := wp_V1 (c := 110) rfl rfl (fun _ => rfl) rfl rfl (zcan_of rfl rfl) rfl rfl rfl
theorem s203_10 : WP 203 0 10 L (vI x :: S) h Q ↔ zif (x = 0) (WP 203 0 15 L S h Q) (WP 203 0 13 L S h Q) := wp_bE zc_eq rfl rfl rfl
theorem s203_13 : WP 203 0 13 L S h Q ↔ WP 203 0 14 L (vI 0 :: S) h Q := wp_pl rfl rfl rfl
theorem s203_14 : WP 203 0 14 L [vI x] h Q ↔ Q (.inl (some (vI x))) h := wp_iret0 rfl rfl
theorem s203_15 : WP 203 0 15 [a0, a1, a2, a3, a4, vI x, a6, a7] S h Q ↔ WP 203 0 17 [a0, a1, a2, a3, a4, vI x, a6, a7] (vI x :: S) h Q := wp_iload rfl rfl
theorem s203_17 : WP 203 0 17 L S h Q ↔ WP 203 0 18 L (vI 1 :: S) h Q := wp_pl rfl rfl rfl
theorem s203_18 : WP 203 0 18 L S h Q ↔ WP 203 0 20 L (vI 6 :: S) h Q := wp_pl rfl rfl rfl
theorem s203_20 : WP 203 0 20 L (vI x2 :: vI x1 :: vI x0 :: S) h Q ↔ (zw S ≤ 8 ∧ WP 183 0 0 [vI x0, vI x1, vI x2] [] h (zret 203 0 20 23 L S Q)) := wp_S rfl rfl (zcan_of rfl rfl) rfl rfl rfl
theorem s203_23 : WP 203 0 23 [a0, a1, a2, a3, a4, a5, a6, a7] (vI x :: S) h Q ↔ WP 203 0 25 [a0, a1, a2, a3, a4, a5, vI x, a7] S h Q := wp_istore rfl rfl rfl
theorem s203_25 : WP 203 0 25 L S h Q ↔ WP 203 0 26 L (vI 0 :: S) h Q := wp_pl rfl rfl rfl
theorem s203_26 : WP 203 0 26 [a0, a1, a2, a3, a4, a5, a6, a7] (vI x :: S) h Q ↔ WP 203 0 28 [a0, a1, a2, a3, a4, a5, a6, vI x] S h Q := wp_istore rfl rfl rfl
theorem s203_28 : WP 203 0 28 [a0, a1, a2, a3, a4, a5, vI x, a7] S h Q ↔ WP 203 0 30 [a0, a1, a2, a3, a4, a5, vI x, a7] (vI x :: S) h Q := wp_iload rfl rfl
theorem s203_30 : WP 203 0 30 L (vI x :: S) h Q ↔ zif (x = 0) (WP 203 0 69 L S h Q) (WP 203 0 33 L S h Q) := wp_bE zc_eq rfl rfl rfl
theorem s203_33 : WP 203 0 33 [a0, a1, a2, a3, a4, a5, a6, vI x] S h Q ↔ WP 203 0 35 [a0, a1, a2, a3, a4, a5, a6, vI x] (vI x :: S) h Q := wp_iload rfl rfl
theorem s203_35 : WP 203 0 35 [a0, a1, a2, a3, a4, vI x, a6, a7] S h Q ↔ WP 203 0 37 [a0, a1, a2, a3, a4, vI x, a6, a7] (vI x :: S) h Q := wp_iload rfl rfl
theorem s203_37 : WP 203 0 37 L (vI y :: vI x :: S) h Q ↔ zif (x < y) (WP 203 0 40 L S h Q) (WP 203 0 69 L S h Q) := wp_bN zc_lt rfl rfl rfl
theorem s203_40 : WP 203 0 40 [vA r, a1, a2, a3, a4, a5, a6, a7] S h Q ↔ WP 203 0 41 [vA r, a1, a2, a3, a4, a5, a6, a7] (vA r :: S) h Q := wp_aload rfl rfl
theorem s203_41 : WP 203 0 41 L (vA (some a) :: S) h Q ↔ (zhas 46 (hk h a) = true ∧ WP 203 0 44 L (hm h a 46 :: S) h Q) := wp_if rfl rfl rfl
theorem s203_44 : WP 203 0 44 [vA r, a1, a2, a3, a4, a5, a6, a7] S h Q ↔ WP 203 0 45 [vA r, a1, a2, a3, a4, a5, a6, a7] (vA r :: S) h Q := wp_aload rfl rfl
theorem s203_45 : WP 203 0 45 L (vA (some a) :: S) h Q ↔ (zhas 49 (hk h a) = true ∧ WP 203 0 48 L (hm h a 49 :: S) h Q) := wp_if rfl rfl rfl
theorem s203_48 : WP 203 0 48 [a0, a1, a2, a3, a4, a5, a6, vI x] S h Q ↔ WP 203 0 50 [a0, a1, a2, a3, a4, a5, a6, vI x] (vI x :: S) h Q := wp_iload rfl rfl
theorem s203_50 : WP 203 0 50 L (vI y :: vI x :: S) h Q ↔ WP 203 0 51 L (vI (wr (x + y)) :: S) h Q := wp_pl rfl rfl rfl
theorem s203_51 : WP 203 0 51 L (vI x :: vA (some a) :: S) h Q ↔ ((((hk h a).1 = 2 ∨ (hk h a).1 = 3) ∧ 0 ≤ x ∧ x < ((hk h a).2 : Int)) ∧ WP 203 0 52 L (hm h a x.toNat :: S) h Q) := wp_if rfl rfl rfl
theorem s203_52 : WP 203 0 52 [a0, vI x, a2, a3, a4, a5, a6, a7] S h Q ↔ WP 203 0 53 [a0, vI x, a2, a3, a4, a5, a6, a7] (vI x :: S) h Q := wp_iload rfl rfl
theorem s203_53 : WP 203 0 53 [a0, vI x, a2, a3, a4, a5, a6, a7] S h Q ↔ WP 203 0 54 [a0, vI x, a2, a3, a4, a5, a6, a7] (vI x :: S) h Q := wp_iload rfl rfl
theorem s203_54 : WP 203 0 54 [a0, a1, vI x, a3, a4, a5, a6, a7] S h Q ↔ WP 203 0 55 [a0, a1, vI x, a3, a4, a5, a6, a7] (vI x :: S) h Q := wp_iload rfl rfl
theorem s203_55 : WP 203 0 55 L (vI y :: vI x :: S) h Q ↔ WP 203 0 56 L (vI (wr (x + y)) :: S) h Q := wp_pl rfl rfl rfl
theorem s203_56 : WP 203 0 56 L S h Q ↔ WP 203 0 57 L (vI 1 :: S) h Q := wp_pl rfl rfl rfl
theorem s203_57 : WP 203 0 57 L (vI y :: vI x :: S) h Q ↔ WP 203 0 58 L (vI (wr (x - y)) :: S) h Q := wp_pl rfl rfl rfl
theorem s203_58 : WP 203 0 58 L (vI x2 :: vI x1 :: vI x0 :: S) h Q ↔ (zw S ≤ 8 ∧ WP 183 0 0 [vI x0, vI x1, vI x2] [] h (zret 203 0 58 61 L S Q)) := wp_S rfl rfl (zcan_of rfl rfl) rfl rfl rfl
theorem s203_61 : WP 203 0 61 [a0, a1, a2, a3, a4, a5, a6, a7] (vI x :: S) h Q ↔ WP 203 0 63 [a0, a1, a2, a3, a4, a5, vI x, a7] S h Q := wp_istore rfl rfl rfl
theorem s203_63 : WP 203 0 63 [a0, a1, a2, a3, a4, a5, a6, vI x] S h Q ↔ WP 203 0 66 [a0, a1, a2, a3, a4, a5, a6, vI (wr (x + 1))] S h Q := wp_iinc rfl rfl rfl
theorem s203_66 : WP 203 0 66 L S h Q ↔ WP 203 0 28 L S h Q := wp_pl rfl rfl rfl
theorem s203_69 : WP 203 0 69 [a0, a1, a2, a3, a4, a5, vI x, a7] S h Q ↔ WP 203 0 71 [a0, a1, a2, a3, a4, a5, vI x, a7] (vI x :: S) h Q := wp_iload rfl rfl
theorem s203_71 : WP 203 0 71 L (vI x :: S) h Q ↔ zif (x = 0) (WP 203 0 74 L S h Q) (WP 203 0 80 L S h Q) := wp_bN zc_eq rfl rfl rfl
theorem s203_74 : WP 203 0 74 [vA r, a1, a2, a3, a4, a5, a6, a7] S h Q ↔ WP 203 0 75 [vA r, a1, a2, a3, a4, a5, a6, a7] (vA r :: S) h Q := wp_aload rfl rfl
theorem s203_75 : WP 203 0 75 L (vA (some a) :: S) h Q ↔ ((hk h a).1 = 110 ∧ (zw S ≤ 8 ∧ WP 161 0 0 [vA (some a)] [] h (zret 203 0 75 78 L S Q))) := wp_V1 (c := 110) rfl rfl (fun _ => rfl) rfl rfl (zcan_of rfl rfl) rfl rfl rfl
theorem s203_78 : WP 203 0 78 L S h Q ↔ WP 203 0 79 L (vI 0 :: S) h Q := wp_pl rfl rfl rfl
theorem s203_79 : WP 203 0 79 L [vI x] h Q ↔ Q (.inl (some (vI x))) h := wp_iret0 rfl rfl
theorem s203_80 : WP 203 0 80 L S h Q ↔ WP 203 0 81 L (vI 0 :: S) h Q := wp_pl rfl rfl rfl
theorem s203_81 : WP 203 0 81 [a0, a1, a2, a3, a4, a5, a6, a7] (vI x :: S) h Q ↔ WP 203 0 83 [a0, a1, a2, a3, a4, a5, a6, vI x] S h Q := wp_istore rfl rfl rfl
theorem s203_83 : WP 203 0 83 [a0, a1, a2, a3, a4, a5, a6, vI x] S h Q ↔ WP 203 0 85 [a0, a1, a2, a3, a4, a5, a6, vI x] (vI x :: S) h Q := wp_iload rfl rfl
theorem s203_85 : WP 203 0 85 [a0, a1, a2, a3, a4, vI x, a6, a7] S h Q ↔ WP 203 0 87 [a0, a1, a2, a3, a4, vI x, a6, a7] (vI x :: S) h Q := wp_iload rfl rfl
theorem s203_87 : WP 203 0 87 L (vI y :: vI x :: S) h Q ↔ zif (x < y) (WP 203 0 90 L S h Q) (WP 203 0 117 L S h Q) := wp_bN zc_lt rfl rfl rfl
theorem s203_90 : WP 203 0 90 [a0, a1, a2, vA r, a4, a5, a6, a7] S h Q ↔ WP 203 0 91 [a0, a1, a2, vA r, a4, a5, a6, a7] (vA r :: S) h Q := wp_aload rfl rfl
theorem s203_91 : WP 203 0 91 [a0, a1, a2, a3, vI x, a5, a6, a7] S h Q ↔ WP 203 0 93 [a0, a1, a2, a3, vI x, a5, a6, a7] (vI x :: S) h Q := wp_iload rfl rfl
theorem s203_93 : WP 203 0 93 [a0, a1, a2, a3, a4, a5, a6, vI x] S h Q ↔ WP 203 0 95 [a0, a1, a2, a3, a4, a5, a6, vI x] (vI x :: S) h Q := wp_iload rfl rfl
theorem s203_95 : WP 203 0 95 L (vI y :: vI x :: S) h Q ↔ WP 203 0 96 L (vI (wr (x + y)) :: S) h Q := wp_pl rfl rfl rfl
theorem s203_96 : WP 203 0 96 [vA r, a1, a2, a3, a4, a5, a6, a7] S h Q ↔ WP 203 0 97 [vA r, a1, a2, a3, a4, a5, a6, a7] (vA r :: S) h Q := wp_aload rfl rfl
theorem s203_97 : WP 203 0 97 L (vA (some a) :: S) h Q ↔ (zhas 46 (hk h a) = true ∧ WP 203 0 100 L (hm h a 46 :: S) h Q) := wp_if rfl rfl rfl
theorem s203_100 : WP 203 0 100 [vA r, a1, a2, a3, a4, a5, a6, a7] S h Q ↔ WP 203 0 101 [vA r, a1, a2, a3, a4, a5, a6, a7] (vA r :: S) h Q := wp_aload rfl rfl
theorem s203_101 : WP 203 0 101 L (vA (some a) :: S) h Q ↔ (zhas 49 (hk h a) = true ∧ WP 203 0 104 L (hm h a 49 :: S) h Q) := wp_if rfl rfl rfl
theorem s203_104 : WP 203 0 104 [a0, a1, a2, a3, a4, a5, a6, vI x] S h Q ↔ WP 203 0 106 [a0, a1, a2, a3, a4, a5, a6, vI x] (vI x :: S) h Q := wp_iload rfl rfl
theorem s203_106 : WP 203 0 106 L (vI y :: vI x :: S) h Q ↔ WP 203 0 107 L (vI (wr (x + y)) :: S) h Q := wp_pl rfl rfl rfl
theorem s203_107 : WP 203 0 107 L (vI x :: vA (some a) :: S) h Q ↔ ((((hk h a).1 = 2 ∨ (hk h a).1 = 3) ∧ 0 ≤ x ∧ x < ((hk h a).2 : Int)) ∧ WP 203 0 108 L (hm h a x.toNat :: S) h Q) := wp_if rfl rfl rfl
theorem s203_108 : WP 203 0 108 [a0, vI x, a2, a3, a4, a5, a6, a7] S h Q ↔ WP 203 0 109 [a0, vI x, a2, a3, a4, a5, a6, a7] (vI x :: S) h Q := wp_iload rfl rfl
theorem s203_109 : WP 203 0 109 L (vI y :: vI x :: S) h Q ↔ WP 203 0 110 L (vI (wr (x - y)) :: S) h Q := wp_pl rfl rfl rfl
theorem s203_110 : WP 203 0 110 L (vI y :: vI x :: vA (some a) :: S) h Q ↔ (((hk h a).1 = 1 ∧ (0 ≤ x ∧ x < ((hk h a).2 : Int)) ∧ zNC ≤ a) ∧ WP 203 0 111 L S (hput h a x.toNat (vI y)) Q) := wp_if rfl rfl rfl
theorem s203_111 : WP 203 0 111 [a0, a1, a2, a3, a4, a5, a6, vI x] S h Q ↔ WP 203 0 114 [a0, a1, a2, a3, a4, a5, a6, vI (wr (x + 1))] S h Q := wp_iinc rfl rfl rfl
theorem s203_114 : WP 203 0 114 L S h Q ↔ WP 203 0 83 L S h Q := wp_pl rfl rfl rfl
theorem s203_117 : WP 203 0 117 [vA r, a1, a2, a3, a4, a5, a6, a7] S h Q ↔ WP 203 0 118 [vA r, a1, a2, a3, a4, a5, a6, a7] (vA r :: S) h Q := wp_aload rfl rfl
theorem s203_118 : WP 203 0 118 L (vA r :: S) h Q ↔ WP 203 0 119 L (vA r :: vA r :: S) h Q := wp_pl rfl rfl rfl
theorem s203_118i : WP 203 0 118 L (vI x :: S) h Q ↔ WP 203 0 119 L (vI x :: vI x :: S) h Q := wp_pl rfl rfl rfl
theorem s203_119 : WP 203 0 119 L (vA (some a) :: S) h Q ↔ (zhas 49 (hk h a) = true ∧ WP 203 0 122 L (hm h a 49 :: S) h Q) := wp_if rfl rfl rfl
theorem s203_122 : WP 203 0 122 [a0, a1, a2, a3, a4, vI x, a6, a7] S h Q ↔ WP 203 0 124 [a0, a1, a2, a3, a4, vI x, a6, a7] (vI x :: S) h Q := wp_iload rfl rfl
theorem s203_124 : WP 203 0 124 L (vI y :: vI x :: S) h Q ↔ WP 203 0 125 L (vI (wr (x + y)) :: S) h Q := wp_pl rfl rfl rfl
theorem s203_125 : WP 203 0 125 L (vI x :: vA (some a) :: S) h Q ↔ ((zNC ≤ a ∧ zhas 49 (hk h a) = true) ∧ WP 203 0 128 L S (hput h a 49 (vI x)) Q) := wp_put0 rfl rfl
theorem s203_128 : WP 203 0 128 [a0, a1, a2, a3, a4, vI x, a6, a7] S h Q ↔ WP 203 0 130 [a0, a1, a2, a3, a4, vI x, a6, a7] (vI x :: S) h Q := wp_iload rfl rfl
theorem s203_130 : WP 203 0 130 L [vI x] h Q ↔ Q (.inl (some (vI x))) h := wp_iret0 rfl rfl
/-! RepeatFreeModel.lettersOf(I)I -/
theorem s204_0 : WP 204 0 0 L S h Q ↔ WP 204 0 1 L (vI 0 :: S) h Q := wp_pl rfl rfl rfl
theorem s204_1 : WP 204 0 1 [a0, a1, a2, a3] (vI x :: S) h Q ↔ WP 204 0 2 [a0, a1, vI x, a3] S h Q := wp_istore rfl rfl rfl
theorem s204_2 : WP 204 0 2 L S h Q ↔ WP 204 0 3 L (vI 0 :: S) h Q := wp_pl rfl rfl rfl
theorem s204_3 : WP 204 0 3 [a0, a1, a2, a3] (vI x :: S) h Q ↔ WP 204 0 4 [a0, a1, a2, vI x] S h Q := wp_istore rfl rfl rfl
theorem s204_4 : WP 204 0 4 [a0, a1, a2, vI x] S h Q ↔ WP 204 0 5 [a0, a1, a2, vI x] (vI x :: S) h Q := wp_iload rfl rfl
theorem s204_5 : WP 204 0 5 L S h Q ↔ WP 204 0 6 L (vI 3 :: S) h Q := wp_pl rfl rfl rfl
theorem s204_6 : WP 204 0 6 L (vI y :: vI x :: S) h Q ↔ zif (x < y) (WP 204 0 9 L S h Q) (WP 204 0 34 L S h Q) := wp_bN zc_lt rfl rfl rfl
theorem s204_9 : WP 204 0 9 [a0, a1, vI x, a3] S h Q ↔ WP 204 0 10 [a0, a1, vI x, a3] (vI x :: S) h Q := wp_iload rfl rfl
theorem s204_10 : WP 204 0 10 [vA r, a1, a2, a3] S h Q ↔ WP 204 0 11 [vA r, a1, a2, a3] (vA r :: S) h Q := wp_aload rfl rfl
theorem s204_11 : WP 204 0 11 [a0, vI x, a2, a3] S h Q ↔ WP 204 0 12 [a0, vI x, a2, a3] (vI x :: S) h Q := wp_iload rfl rfl
theorem s204_12 : WP 204 0 12 [a0, a1, a2, vI x] S h Q ↔ WP 204 0 13 [a0, a1, a2, vI x] (vI x :: S) h Q := wp_iload rfl rfl
theorem s204_13 : WP 204 0 13 L (vI x1 :: vI x0 :: vA (some a) :: S) h Q ↔ ((hk h a).1 = 110 ∧ (zw S ≤ 8 ∧ WP 178 0 0 [vA (some a), vI x0, vI x1, vJ] [] h (zret 204 0 13 16 L S Q))) := wp_V1 (c := 110) rfl rfl (fun _ => rfl) rfl rfl (zcan_of rfl rfl) rfl rfl rfl
theorem s204_16 : WP 204 0 16 L (vI x :: S) h Q ↔ zif (x = 0) (WP 204 0 25 L S h Q) (WP 204 0 19 L S h Q) := wp_bE zc_eq rfl rfl rfl
theorem s204_19 : WP 204 0 19 L S h Q ↔ WP 204 0 20 L (vI 1 :: S) h Q := wp_pl rfl rfl rfl
theorem s204_20 : WP 204 0 20 [a0, a1, a2, vI x] S h Q ↔ WP 204 0 21 [a0, a1, a2, vI x] (vI x :: S) h Q := wp_iload rfl rfl
theorem s204_21 : WP 204 0 21 L (vI y :: vI x :: S) h Q ↔ WP 204 0 22 L (vI (zshl x y) :: S) h Q := wp_pl rfl rfl rfl
theorem s204_22 : WP 204 0 22 L S h Q ↔ WP 204 0 26 L S h Q := wp_pl rfl rfl rfl
theorem s204_25 : WP 204 0 25 L S h Q ↔ WP 204 0 26 L (vI 0 :: S) h Q := wp_pl rfl rfl rfl
theorem s204_26 : WP 204 0 26 L (vI y :: vI x :: S) h Q ↔ WP 204 0 27 L (vI (zor x y) :: S) h Q := wp_pl rfl rfl rfl
theorem s204_27 : WP 204 0 27 [a0, a1, a2, a3] (vI x :: S) h Q ↔ WP 204 0 28 [a0, a1, vI x, a3] S h Q := wp_istore rfl rfl rfl
theorem s204_28 : WP 204 0 28 [a0, a1, a2, vI x] S h Q ↔ WP 204 0 31 [a0, a1, a2, vI (wr (x + 1))] S h Q := wp_iinc rfl rfl rfl
theorem s204_31 : WP 204 0 31 L S h Q ↔ WP 204 0 4 L S h Q := wp_pl rfl rfl rfl
theorem s204_34 : WP 204 0 34 [a0, a1, vI x, a3] S h Q ↔ WP 204 0 35 [a0, a1, vI x, a3] (vI x :: S) h Q := wp_iload rfl rfl
theorem s204_35 : WP 204 0 35 L [vI x] h Q ↔ Q (.inl (some (vI x))) h := wp_iret0 rfl rfl
/-! RepeatFreeModel.limit(III)I -/
theorem s205_0 : WP 205 0 0 [vA r, a1, a2, a3, a4] S h Q ↔ WP 205 0 1 [vA r, a1, a2, a3, a4] (vA r :: S) h Q := wp_aload rfl rfl
theorem s205_1 : WP 205 0 1 L S h Q ↔ WP 205 0 2 L (vI 0 :: S) h Q := wp_pl rfl rfl rfl
theorem s205_2 : WP 205 0 2 L (vI x :: vA (some a) :: S) h Q ↔ ((zNC ≤ a ∧ zhas 45 (hk h a) = true) ∧ WP 205 0 5 L S (hput h a 45 (vI x)) Q) := wp_put0 rfl rfl
theorem s205_5 : WP 205 0 5 [vA r, a1, a2, a3, a4] S h Q ↔ WP 205 0 6 [vA r, a1, a2, a3, a4] (vA r :: S) h Q := wp_aload rfl rfl
theorem s205_6 : WP 205 0 6 [a0, vI x, a2, a3, a4] S h Q ↔ WP 205 0 7 [a0, vI x, a2, a3, a4] (vI x :: S) h Q := wp_iload rfl rfl
theorem s205_7 : WP 205 0 7 L S h Q ↔ WP 205 0 8 L (vI 0 :: S) h Q := wp_pl rfl rfl rfl
theorem s205_8 : WP 205 0 8 L S h Q ↔ WP 205 0 9 L (vI 2 :: S) h Q := wp_pl rfl rfl rfl
theorem s205_9 : WP 205 0 9 L (vI x2 :: vI x1 :: vI x0 :: S) h Q ↔ (zw S ≤ 8 ∧ WP 183 0 0 [vI x0, vI x1, vI x2] [] h (zret 205 0 9 12 L S Q)) := wp_S rfl rfl (zcan_of rfl rfl) rfl rfl rfl
theorem s205_12 : WP 205 0 12 L (vI x :: S) h Q ↔ zif (x = 0) (WP 205 0 35 L S h Q) (WP 205 0 15 L S h Q) := wp_bE zc_eq rfl rfl rfl
theorem s205_15 : WP 205 0 15 [a0, a1, vI x, a3, a4] S h Q ↔ WP 205 0 16 [a0, a1, vI x, a3, a4] (vI x :: S) h Q := wp_iload rfl rfl
theorem s205_16 : WP 205 0 16 L S h Q ↔ WP 205 0 17 L (vI 1 :: S) h Q := wp_pl rfl rfl rfl
theorem s205_17 : WP 205 0 17 L S h Q ↔ WP 205 0 19 L (vI 99 :: S) h Q := wp_pl rfl rfl rfl
theorem s205_19 : WP 205 0 19 L (vI x2 :: vI x1 :: vI x0 :: S) h Q ↔ (zw S ≤ 8 ∧ WP 183 0 0 [vI x0, vI x1, vI x2] [] h (zret 205 0 19 22 L S Q)) := wp_S rfl rfl (zcan_of rfl rfl) rfl rfl rfl
theorem s205_22 : WP 205 0 22 L (vI x :: S) h Q ↔ zif (x = 0) (WP 205 0 35 L S h Q) (WP 205 0 25 L S h Q) := wp_bE zc_eq rfl rfl rfl
theorem s205_25 : WP 205 0 25 [a0, a1, a2, vI x, a4] S h Q ↔ WP 205 0 26 [a0, a1, a2, vI x, a4] (vI x :: S) h Q := wp_iload rfl rfl
theorem s205_26 : WP 205 0 26 L S h Q ↔ WP 205 0 27 L (vI 1 :: S) h Q := wp_pl rfl rfl rfl
theorem s205_27 : WP 205 0 27 L S h Q ↔ WP 205 0 29 L (vI 9 :: S) h Q := wp_pl rfl rfl rfl
theorem s205_29 : WP 205 0 29 L (vI x2 :: vI x1 :: vI x0 :: S) h Q ↔ (zw S ≤ 8 ∧ WP 183 0 0 [vI x0, vI x1, vI x2] [] h (zret 205 0 29 32 L S Q)) := wp_S rfl rfl (zcan_of rfl rfl) rfl rfl rfl
theorem s205_32 : WP 205 0 32 L (vI x :: S) h Q ↔ zif (x = 0) (WP 205 0 35 L S h Q) (WP 205 0 39 L S h Q) := wp_bN zc_eq rfl rfl rfl
theorem s205_35 : WP 205 0 35 L S h Q ↔ WP 205 0 36 L (vI 1 :: S) h Q := wp_pl rfl rfl rfl
theorem s205_36 : WP 205 0 36 L S h Q ↔ WP 205 0 40 L S h Q := wp_pl rfl rfl rfl
theorem s205_39 : WP 205 0 39 L S h Q ↔ WP 205 0 40 L (vI 0 :: S) h Q := wp_pl rfl rfl rfl
theorem s205_40 : WP 205 0 40 L S h Q ↔ WP 205 0 41 L (vI 1 :: S) h Q := wp_pl rfl rfl rfl
theorem s205_41 : WP 205 0 41 L (vI x1 :: vI x0 :: vA (some a) :: S) h Q ↔ ((hk h a).1 = 110 ∧ (zw S ≤ 8 ∧ WP 248 0 0 [vA (some a), vI x0, vI x1] [] h (zret 205 0 41 44 L S Q))) := wp_V1 (c := 110) rfl rfl (fun _ => rfl) rfl rfl (zcan_of rfl rfl) rfl rfl rfl
theorem s205_44 : WP 205 0 44 L (vI x :: S) h Q ↔ zif (x = 0) (WP 205 0 49 L S h Q) (WP 205 0 47 L S h Q) := wp_bE zc_eq rfl rfl rfl
theorem s205_47 : WP 205 0 47 L S h Q ↔ WP 205 0 48 L (vI 0 :: S) h Q := wp_pl rfl rfl rfl
theorem s205_48 : WP 205 0 48 L [vI x] h Q ↔ Q (.inl (some (vI x))) h := wp_iret0 rfl rfl
theorem s205_49 : WP 205 0 49 [vA r, a1, a2, a3, a4] S h Q ↔ WP 205 0 50 [vA r, a1, a2, a3, a4] (vA r :: S) h Q := wp_aload rfl rfl
theorem s205_50 : WP 205 0 50 L (vA (some a) :: S) h Q ↔ (zhas 54 (hk h a) = true ∧ WP 205 0 53 L (hm h a 54 :: S) h Q) := wp_if rfl rfl rfl
theorem s205_53 : WP 205 0 53 L S h Q ↔ WP 205 0 54 L (vI 1 :: S) h Q := wp_pl rfl rfl rfl
theorem s205_54 : WP 205 0 54 L (vI x :: vA (some a) :: S) h Q ↔ (((hk h a).1 = 1 ∧ 0 ≤ x ∧ x < ((hk h a).2 : Int)) ∧ WP 205 0 55 L (hm h a x.toNat :: S) h Q) := wp_if rfl rfl rfl
theorem s205_55 : WP 205 0 55 [a0, a1, a2, a3, a4] (vI x :: S) h Q ↔ WP 205 0 57 [a0, a1, a2, a3, vI x] S h Q := wp_istore rfl rfl rfl
theorem s205_57 : WP 205 0 57 [vA r, a1, a2, a3, a4] S h Q ↔ WP 205 0 58 [vA r, a1, a2, a3, a4] (vA r :: S) h Q := wp_aload rfl rfl
theorem s205_58 : WP 205 0 58 L (vA (some a) :: S) h Q ↔ (zhas 54 (hk h a) = true ∧ WP 205 0 61 L (hm h a 54 :: S) h Q) := wp_if rfl rfl rfl
theorem s205_61 : WP 205 0 61 L S h Q ↔ WP 205 0 62 L (vI 1 :: S) h Q := wp_pl rfl rfl rfl
theorem s205_62 : WP 205 0 62 [a0, vI x, a2, a3, a4] S h Q ↔ WP 205 0 63 [a0, vI x, a2, a3, a4] (vI x :: S) h Q := wp_iload rfl rfl
theorem s205_63 : WP 205 0 63 L (vI y :: vI x :: vA (some a) :: S) h Q ↔ (((hk h a).1 = 1 ∧ (0 ≤ x ∧ x < ((hk h a).2 : Int)) ∧ zNC ≤ a) ∧ WP 205 0 64 L S (hput h a x.toNat (vI y)) Q) := wp_if rfl rfl rfl
theorem s205_64 : WP 205 0 64 [vA r, a1, a2, a3, a4] S h Q ↔ WP 205 0 65 [vA r, a1, a2, a3, a4] (vA r :: S) h Q := wp_aload rfl rfl
theorem s205_65 : WP 205 0 65 L (vA (some a) :: S) h Q ↔ (zhas 54 (hk h a) = true ∧ WP 205 0 68 L (hm h a 54 :: S) h Q) := wp_if rfl rfl rfl
theorem s205_68 : WP 205 0 68 L S h Q ↔ WP 205 0 69 L (vI 2 :: S) h Q := wp_pl rfl rfl rfl
theorem s205_69 : WP 205 0 69 [a0, vI x, a2, a3, a4] S h Q ↔ WP 205 0 70 [a0, vI x, a2, a3, a4] (vI x :: S) h Q := wp_iload rfl rfl
theorem s205_70 : WP 205 0 70 L (vI x :: S) h Q ↔ zif (x = 0) (WP 205 0 73 L S h Q) (WP 205 0 77 L S h Q) := wp_bN zc_eq rfl rfl rfl
theorem s205_73 : WP 205 0 73 L S h Q ↔ WP 205 0 74 L (vI 0 :: S) h Q := wp_pl rfl rfl rfl
theorem s205_74 : WP 205 0 74 L S h Q ↔ WP 205 0 78 L S h Q := wp_pl rfl rfl rfl
theorem s205_77 : WP 205 0 77 [a0, a1, vI x, a3, a4] S h Q ↔ WP 205 0 78 [a0, a1, vI x, a3, a4] (vI x :: S) h Q := wp_iload rfl rfl
theorem s205_78 : WP 205 0 78 L (vI y :: vI x :: vA (some a) :: S) h Q ↔ (((hk h a).1 = 1 ∧ (0 ≤ x ∧ x < ((hk h a).2 : Int)) ∧ zNC ≤ a) ∧ WP 205 0 79 L S (hput h a x.toNat (vI y)) Q) := wp_if rfl rfl rfl
theorem s205_79 : WP 205 0 79 [vA r, a1, a2, a3, a4] S h Q ↔ WP 205 0 80 [vA r, a1, a2, a3, a4] (vA r :: S) h Q := wp_aload rfl rfl
theorem s205_80 : WP 205 0 80 L (vA (some a) :: S) h Q ↔ (zhas 54 (hk h a) = true ∧ WP 205 0 83 L (hm h a 54 :: S) h Q) := wp_if rfl rfl rfl
theorem s205_83 : WP 205 0 83 L S h Q ↔ WP 205 0 84 L (vI 3 :: S) h Q := wp_pl rfl rfl rfl
theorem s205_84 : WP 205 0 84 [a0, vI x, a2, a3, a4] S h Q ↔ WP 205 0 85 [a0, vI x, a2, a3, a4] (vI x :: S) h Q := wp_iload rfl rfl
theorem s205_85 : WP 205 0 85 L (vI x :: S) h Q ↔ zif (x = 0) (WP 205 0 88 L S h Q) (WP 205 0 92 L S h Q) := wp_bN zc_eq rfl rfl rfl
theorem s205_88 : WP 205 0 88 L S h Q ↔ WP 205 0 89 L (vI 0 :: S) h Q := wp_pl rfl rfl rfl
theorem s205_89 : WP 205 0 89 L S h Q ↔ WP 205 0 93 L S h Q := wp_pl rfl rfl rfl
theorem s205_92 : WP 205 0 92 [a0, a1, a2, vI x, a4] S h Q ↔ WP 205 0 93 [a0, a1, a2, vI x, a4] (vI x :: S) h Q := wp_iload rfl rfl
theorem s205_93 : WP 205 0 93 L (vI y :: vI x :: vA (some a) :: S) h Q ↔ (((hk h a).1 = 1 ∧ (0 ≤ x ∧ x < ((hk h a).2 : Int)) ∧ zNC ≤ a) ∧ WP 205 0 94 L S (hput h a x.toNat (vI y)) Q) := wp_if rfl rfl rfl
theorem s205_94 : WP 205 0 94 [a0, a1, a2, a3, vI x] S h Q ↔ WP 205 0 96 [a0, a1, a2, a3, vI x] (vI x :: S) h Q := wp_iload rfl rfl
theorem s205_96 : WP 205 0 96 L [vI x] h Q ↔ Q (.inl (some (vI x))) h := wp_iret0 rfl rfl
/-! RepeatFreeModel.limitLine()V -/
theorem s206_0 : WP 206 0 0 [vA r, a1] S h Q ↔ WP 206 0 1 [vA r, a1] (vA r :: S) h Q := wp_aload rfl rfl
theorem s206_1 : WP 206 0 1 L (vA (some a) :: S) h Q ↔ (zhas 56 (hk h a) = true ∧ WP 206 0 4 L (hm h a 56 :: S) h Q) := wp_if rfl rfl rfl
theorem s206_4 : WP 206 0 4 L (vI x :: S) h Q ↔ zif (x = 0) (WP 206 0 12 L S h Q) (WP 206 0 7 L S h Q) := wp_bE zc_eq rfl rfl rfl
theorem s206_7 : WP 206 0 7 [vA r, a1] S h Q ↔ WP 206 0 8 [vA r, a1] (vA r :: S) h Q := wp_aload rfl rfl
theorem s206_8 : WP 206 0 8 L (vA (some a) :: S) h Q ↔ ((hk h a).1 = 110 ∧ (zw S ≤ 8 ∧ WP 161 0 0 [vA (some a)] [] h (zret 206 0 8 11 L S Q))) := wp_V1 (c := 110) rfl rfl (fun _ => rfl) rfl rfl (zcan_of rfl rfl) rfl rfl rfl
theorem s206_11 : WP 206 0 11 L [] h Q ↔ Q (.inl none) h := wp_ret rfl
theorem s206_12 : WP 206 0 12 [vA r, a1] S h Q ↔ WP 206 0 13 [vA r, a1] (vA r :: S) h Q := wp_aload rfl rfl
theorem s206_13 : WP 206 0 13 L S h Q ↔ WP 206 0 14 L (vI 1 :: S) h Q := wp_pl rfl rfl rfl
theorem s206_14 : WP 206 0 14 L (vI x :: vA (some a) :: S) h Q ↔ ((zNC ≤ a ∧ zhas 56 (hk h a) = true ∧ (x = 0 ∨ x = 1)) ∧ WP 206 0 17 L S (hput h a 56 (vI x)) Q) := wp_put1 rfl rfl
theorem s206_17 : WP 206 0 17 [vA r, a1] S h Q ↔ WP 206 0 18 [vA r, a1] (vA r :: S) h Q := wp_aload rfl rfl
theorem s206_18 : WP 206 0 18 L S h Q ↔ WP 206 0 20 L (vA (some 6) :: S) h Q := wp_pl rfl rfl rfl
theorem s206_20 : WP 206 0 20 L (vA r0 :: vA (some a) :: S) h Q ↔ ((hk h a).1 = 110 ∧ (zw S ≤ 8 ∧ WP 138 0 0 [vA (some a), vA r0] [] h (zret 206 0 20 23 L S Q))) := wp_V1 (c := 110) rfl rfl (fun _ => rfl) rfl rfl (zcan_of rfl rfl) rfl rfl rfl
theorem s206_23 : WP 206 0 23 [vA r, a1] S h Q ↔ WP 206 0 24 [vA r, a1] (vA r :: S) h Q := wp_aload rfl rfl
theorem s206_24 : WP 206 0 24 L S h Q ↔ WP 206 0 26 L (vA (some 8) :: S) h Q := wp_pl rfl rfl rfl
theorem s206_26 : WP 206 0 26 L (vA r0 :: vA (some a) :: S) h Q ↔ ((hk h a).1 = 110 ∧ (zw S ≤ 8 ∧ WP 246 0 0 [vA (some a), vA r0, vJ] [] h (zret 206 0 26 29 L S Q))) := wp_V1 (c := 110) rfl rfl (fun _ => rfl) rfl rfl (zcan_of rfl rfl) rfl rfl rfl
theorem s206_29 : WP 206 0 29 [a0, a1] (vI x :: S) h Q ↔ WP 206 0 30 [a0, vI x] S h Q := wp_istore rfl rfl rfl
theorem s206_30 : WP 206 0 30 [a0, vI x] S h Q ↔ WP 206 0 31 [a0, vI x] (vI x :: S) h Q := wp_iload rfl rfl
theorem s206_31 : WP 206 0 31 L (vI x :: S) h Q ↔ zif (x = 0) (WP 206 0 34 L S h Q) (WP 206 0 40 L S h Q) := wp_bN zc_eq rfl rfl rfl
theorem s206_34 : WP 206 0 34 [vA r, a1] S h Q ↔ WP 206 0 35 [vA r, a1] (vA r :: S) h Q := wp_aload rfl rfl
theorem s206_35 : WP 206 0 35 L S h Q ↔ WP 206 0 37 L (vA (some 10) :: S) h Q := wp_pl rfl rfl rfl
theorem s206_37 : WP 206 0 37 L (vA r0 :: vA (some a) :: S) h Q ↔ ((hk h a).1 = 110 ∧ (zw S ≤ 8 ∧ WP 138 0 0 [vA (some a), vA r0] [] h (zret 206 0 37 40 L S Q))) := wp_V1 (c := 110) rfl rfl (fun _ => rfl) rfl rfl (zcan_of rfl rfl) rfl rfl rfl
theorem s206_40 : WP 206 0 40 [vA r, a1] S h Q ↔ WP 206 0 41 [vA r, a1] (vA r :: S) h Q := wp_aload rfl rfl
theorem s206_41 : WP 206 0 41 L (vA (some a) :: S) h Q ↔ (zhas 55 (hk h a) = true ∧ WP 206 0 44 L (hm h a 55 :: S) h Q) := wp_if rfl rfl rfl
theorem s206_44 : WP 206 0 44 L S h Q ↔ WP 206 0 45 L (vI 1 :: S) h Q := wp_pl rfl rfl rfl
theorem s206_45 : WP 206 0 45 [a0, vI x] S h Q ↔ WP 206 0 46 [a0, vI x] (vI x :: S) h Q := wp_iload rfl rfl
theorem s206_46 : WP 206 0 46 L (vI x :: S) h Q ↔ zif (x = 0) (WP 206 0 53 L S h Q) (WP 206 0 49 L S h Q) := wp_bE zc_eq rfl rfl rfl
theorem s206_49 : WP 206 0 49 L S h Q ↔ WP 206 0 50 L (vI 1 :: S) h Q := wp_pl rfl rfl rfl
theorem s206_50 : WP 206 0 50 L S h Q ↔ WP 206 0 54 L S h Q := wp_pl rfl rfl rfl
theorem s206_53 : WP 206 0 53 L S h Q ↔ WP 206 0 54 L (vI 2 :: S) h Q := wp_pl rfl rfl rfl
theorem s206_54 : WP 206 0 54 L (vI y :: vI x :: vA (some a) :: S) h Q ↔ (((hk h a).1 = 1 ∧ (0 ≤ x ∧ x < ((hk h a).2 : Int)) ∧ zNC ≤ a) ∧ WP 206 0 55 L S (hput h a x.toNat (vI y)) Q) := wp_if rfl rfl rfl
theorem s206_55 : WP 206 0 55 [vA r, a1] S h Q ↔ WP 206 0 56 [vA r, a1] (vA r :: S) h Q := wp_aload rfl rfl
theorem s206_56 : WP 206 0 56 L (vA (some a) :: S) h Q ↔ (zhas 55 (hk h a) = true ∧ WP 206 0 59 L (hm h a 55 :: S) h Q) := wp_if rfl rfl rfl
theorem s206_59 : WP 206 0 59 L S h Q ↔ WP 206 0 60 L (vI 2 :: S) h Q := wp_pl rfl rfl rfl
theorem s206_60 : WP 206 0 60 [vA r, a1] S h Q ↔ WP 206 0 61 [vA r, a1] (vA r :: S) h Q := wp_aload rfl rfl
theorem s206_61 : WP 206 0 61 L S h Q ↔ WP 206 0 62 L (vI 1 :: S) h Q := wp_pl rfl rfl rfl
theorem s206_62 : WP 206 0 62 L S h Q ↔ WP 206 0 64 L (vI 99 :: S) h Q := wp_pl rfl rfl rfl
theorem s206_64 : WP 206 0 64 L (vI x1 :: vI x0 :: vA (some a) :: S) h Q ↔ ((hk h a).1 = 110 ∧ (zw S ≤ 8 ∧ WP 227 0 0 [vA (some a), vI x0, vI x1, vJ, vJ] [] h (zret 206 0 64 67 L S Q))) := wp_V1 (c := 110) rfl rfl (fun _ => rfl) rfl rfl (zcan_of rfl rfl) rfl rfl rfl
theorem s206_67 : WP 206 0 67 L (vI y :: vI x :: vA (some a) :: S) h Q ↔ (((hk h a).1 = 1 ∧ (0 ≤ x ∧ x < ((hk h a).2 : Int)) ∧ zNC ≤ a) ∧ WP 206 0 68 L S (hput h a x.toNat (vI y)) Q) := wp_if rfl rfl rfl
theorem s206_68 : WP 206 0 68 [vA r, a1] S h Q ↔ WP 206 0 69 [vA r, a1] (vA r :: S) h Q := wp_aload rfl rfl
theorem s206_69 : WP 206 0 69 L S h Q ↔ WP 206 0 71 L (vA (some 12) :: S) h Q := wp_pl rfl rfl rfl
theorem s206_71 : WP 206 0 71 L (vA r0 :: vA (some a) :: S) h Q ↔ ((hk h a).1 = 110 ∧ (zw S ≤ 8 ∧ WP 138 0 0 [vA (some a), vA r0] [] h (zret 206 0 71 74 L S Q))) := wp_V1 (c := 110) rfl rfl (fun _ => rfl) rfl rfl (zcan_of rfl rfl) rfl rfl rfl
theorem s206_74 : WP 206 0 74 [vA r, a1] S h Q ↔ WP 206 0 75 [vA r, a1] (vA r :: S) h Q := wp_aload rfl rfl
theorem s206_75 : WP 206 0 75 L (vA (some a) :: S) h Q ↔ (zhas 55 (hk h a) = true ∧ WP 206 0 78 L (hm h a 55 :: S) h Q) := wp_if rfl rfl rfl
theorem s206_78 : WP 206 0 78 L S h Q ↔ WP 206 0 79 L (vI 3 :: S) h Q := wp_pl rfl rfl rfl
theorem s206_79 : WP 206 0 79 [vA r, a1] S h Q ↔ WP 206 0 80 [vA r, a1] (vA r :: S) h Q := wp_aload rfl rfl
theorem s206_80 : WP 206 0 80 L S h Q ↔ WP 206 0 81 L (vI 1 :: S) h Q := wp_pl rfl rfl rfl
theorem s206_81 : WP 206 0 81 L S h Q ↔ WP 206 0 83 L (vI 9 :: S) h Q := wp_pl rfl rfl rfl
theorem s206_83 : WP 206 0 83 L (vI x1 :: vI x0 :: vA (some a) :: S) h Q ↔ ((hk h a).1 = 110 ∧ (zw S ≤ 8 ∧ WP 227 0 0 [vA (some a), vI x0, vI x1, vJ, vJ] [] h (zret 206 0 83 86 L S Q))) := wp_V1 (c := 110) rfl rfl (fun _ => rfl) rfl rfl (zcan_of rfl rfl) rfl rfl rfl
theorem s206_86 : WP 206 0 86 L (vI y :: vI x :: vA (some a) :: S) h Q ↔ (((hk h a).1 = 1 ∧ (0 ≤ x ∧ x < ((hk h a).2 : Int)) ∧ zNC ≤ a) ∧ WP 206 0 87 L S (hput h a x.toNat (vI y)) Q) := wp_if rfl rfl rfl
theorem s206_87 : WP 206 0 87 L [] h Q ↔ Q (.inl none) h := wp_ret rfl
/-! RepeatFreeModel.line()V -/
theorem s207_0 : WP 207 0 0 [vA r, a1] S h Q ↔ WP 207 0 1 [vA r, a1] (vA r :: S) h Q := wp_aload rfl rfl
theorem s207_1 : WP 207 0 1 L (vA (some a) :: S) h Q ↔ ((hk h a).1 = 110 ∧ (zw S ≤ 8 ∧ WP 145 0 0 [vA (some a)] [] h (zret 207 0 1 4 L S Q))) := wp_V1 (c := 110) rfl rfl (fun _ => rfl) rfl rfl (zcan_of rfl rfl) rfl rfl rfl
theorem s207_4 : WP 207 0 4 [vA r, a1] S h Q ↔ WP 207 0 5 [vA r, a1] (vA r :: S) h Q := wp_aload rfl rfl
theorem s207_5 : WP 207 0 5 L (vA (some a) :: S) h Q ↔ (zhas 55 (hk h a) = true ∧ WP 207 0 8 L (hm h a 55 :: S) h Q) := wp_if rfl rfl rfl
theorem s207_8 : WP 207 0 8 L S h Q ↔ WP 207 0 9 L (vI 0 :: S) h Q := wp_pl rfl rfl rfl
theorem s207_9 : WP 207 0 9 L (vI x :: vA (some a) :: S) h Q ↔ (((hk h a).1 = 1 ∧ 0 ≤ x ∧ x < ((hk h a).2 : Int)) ∧ WP 207 0 10 L (hm h a x.toNat :: S) h Q) := wp_if rfl rfl rfl
theorem s207_10 : WP 207 0 10 L (vI x :: S) h Q ↔ zif (0 < x) (WP 207 0 13 L S h Q) (WP 207 0 17 L S h Q) := wp_bN zc_gt rfl rfl rfl
theorem s207_13 : WP 207 0 13 L S h Q ↔ WP 207 0 14 L (vI 1 :: S) h Q := wp_pl rfl rfl rfl
theorem s207_14 : WP 207 0 14 L S h Q ↔ WP 207 0 18 L S h Q := wp_pl rfl rfl rfl
theorem s207_17 : WP 207 0 17 L S h Q ↔ WP 207 0 18 L (vI 0 :: S) h Q := wp_pl rfl rfl rfl
theorem s207_18 : WP 207 0 18 [a0, a1] (vI x :: S) h Q ↔ WP 207 0 19 [a0, vI x] S h Q := wp_istore rfl rfl rfl
theorem s207_19 : WP 207 0 19 [a0, vI x] S h Q ↔ WP 207 0 20 [a0, vI x] (vI x :: S) h Q := wp_iload rfl rfl
theorem s207_20 : WP 207 0 20 L (vI x :: S) h Q ↔ zif (x = 0) (WP 207 0 23 L S h Q) (WP 207 0 47 L S h Q) := wp_bN zc_eq rfl rfl rfl
theorem s207_23 : WP 207 0 23 [vA r, a1] S h Q ↔ WP 207 0 24 [vA r, a1] (vA r :: S) h Q := wp_aload rfl rfl
theorem s207_24 : WP 207 0 24 L S h Q ↔ WP 207 0 26 L (vA (some 4) :: S) h Q := wp_pl rfl rfl rfl
theorem s207_26 : WP 207 0 26 L (vA r0 :: vA (some a) :: S) h Q ↔ ((hk h a).1 = 110 ∧ (zw S ≤ 8 ∧ WP 246 0 0 [vA (some a), vA r0, vJ] [] h (zret 207 0 26 29 L S Q))) := wp_V1 (c := 110) rfl rfl (fun _ => rfl) rfl rfl (zcan_of rfl rfl) rfl rfl rfl
theorem s207_29 : WP 207 0 29 L (vI x :: S) h Q ↔ zif (x = 0) (WP 207 0 47 L S h Q) (WP 207 0 32 L S h Q) := wp_bE zc_eq rfl rfl rfl
theorem s207_32 : WP 207 0 32 [vA r, a1] S h Q ↔ WP 207 0 33 [vA r, a1] (vA r :: S) h Q := wp_aload rfl rfl
theorem s207_33 : WP 207 0 33 L (vA (some a) :: S) h Q ↔ (zhas 55 (hk h a) = true ∧ WP 207 0 36 L (hm h a 55 :: S) h Q) := wp_if rfl rfl rfl
theorem s207_36 : WP 207 0 36 L S h Q ↔ WP 207 0 37 L (vI 0 :: S) h Q := wp_pl rfl rfl rfl
theorem s207_37 : WP 207 0 37 [vA r, a1] S h Q ↔ WP 207 0 38 [vA r, a1] (vA r :: S) h Q := wp_aload rfl rfl
theorem s207_38 : WP 207 0 38 L S h Q ↔ WP 207 0 39 L (vI 2 :: S) h Q := wp_pl rfl rfl rfl
theorem s207_39 : WP 207 0 39 L S h Q ↔ WP 207 0 40 L (vI 4 :: S) h Q := wp_pl rfl rfl rfl
theorem s207_40 : WP 207 0 40 L (vI x1 :: vI x0 :: vA (some a) :: S) h Q ↔ ((hk h a).1 = 110 ∧ (zw S ≤ 8 ∧ WP 227 0 0 [vA (some a), vI x0, vI x1, vJ, vJ] [] h (zret 207 0 40 43 L S Q))) := wp_V1 (c := 110) rfl rfl (fun _ => rfl) rfl rfl (zcan_of rfl rfl) rfl rfl rfl
theorem s207_43 : WP 207 0 43 L (vI y :: vI x :: vA (some a) :: S) h Q ↔ (((hk h a).1 = 1 ∧ (0 ≤ x ∧ x < ((hk h a).2 : Int)) ∧ zNC ≤ a) ∧ WP 207 0 44 L S (hput h a x.toNat (vI y)) Q) := wp_if rfl rfl rfl
theorem s207_44 : WP 207 0 44 L S h Q ↔ WP 207 0 131 L S h Q := wp_pl rfl rfl rfl
theorem s207_47 : WP 207 0 47 [a0, vI x] S h Q ↔ WP 207 0 48 [a0, vI x] (vI x :: S) h Q := wp_iload rfl rfl
theorem s207_48 : WP 207 0 48 L (vI x :: S) h Q ↔ zif (x = 0) (WP 207 0 67 L S h Q) (WP 207 0 51 L S h Q) := wp_bE zc_eq rfl rfl rfl
theorem s207_51 : WP 207 0 51 [vA r, a1] S h Q ↔ WP 207 0 52 [vA r, a1] (vA r :: S) h Q := wp_aload rfl rfl
theorem s207_52 : WP 207 0 52 L S h Q ↔ WP 207 0 54 L (vA (some 6) :: S) h Q := wp_pl rfl rfl rfl
theorem s207_54 : WP 207 0 54 L (vA r0 :: vA (some a) :: S) h Q ↔ ((hk h a).1 = 110 ∧ (zw S ≤ 8 ∧ WP 193 0 0 [vA (some a), vA r0, vJ, vJ] [] h (zret 207 0 54 57 L S Q))) := wp_V1 (c := 110) rfl rfl (fun _ => rfl) rfl rfl (zcan_of rfl rfl) rfl rfl rfl
theorem s207_57 : WP 207 0 57 L (vI x :: S) h Q ↔ zif (x = 0) (WP 207 0 67 L S h Q) (WP 207 0 60 L S h Q) := wp_bE zc_eq rfl rfl rfl
theorem s207_60 : WP 207 0 60 [vA r, a1] S h Q ↔ WP 207 0 61 [vA r, a1] (vA r :: S) h Q := wp_aload rfl rfl
theorem s207_61 : WP 207 0 61 L (vA (some a) :: S) h Q ↔ ((hk h a).1 = 110 ∧ (zw S ≤ 8 ∧ WP 206 0 0 [vA (some a), vJ] [] h (zret 207 0 61 64 L S Q))) := wp_V1 (c := 110) rfl rfl (fun _ => rfl) rfl rfl (zcan_of rfl rfl) rfl rfl rfl
theorem s207_64 : WP 207 0 64 L S h Q ↔ WP 207 0 131 L S h Q := wp_pl rfl rfl rfl
theorem s207_67 : WP 207 0 67 [a0, vI x] S h Q ↔ WP 207 0 68 [a0, vI x] (vI x :: S) h Q := wp_iload rfl rfl
theorem s207_68 : WP 207 0 68 L (vI x :: S) h Q ↔ zif (x = 0) (WP 207 0 87 L S h Q) (WP 207 0 71 L S h Q) := wp_bE zc_eq rfl rfl rfl
theorem s207_71 : WP 207 0 71 [vA r, a1] S h Q ↔ WP 207 0 72 [vA r, a1] (vA r :: S) h Q := wp_aload rfl rfl
theorem s207_72 : WP 207 0 72 L S h Q ↔ WP 207 0 74 L (vA (some 14) :: S) h Q := wp_pl rfl rfl rfl
theorem s207_74 : WP 207 0 74 L (vA r0 :: vA (some a) :: S) h Q ↔ ((hk h a).1 = 110 ∧ (zw S ≤ 8 ∧ WP 193 0 0 [vA (some a), vA r0, vJ, vJ] [] h (zret 207 0 74 77 L S Q))) := wp_V1 (c := 110) rfl rfl (fun _ => rfl) rfl rfl (zcan_of rfl rfl) rfl rfl rfl
theorem s207_77 : WP 207 0 77 L (vI x :: S) h Q ↔ zif (x = 0) (WP 207 0 87 L S h Q) (WP 207 0 80 L S h Q) := wp_bE zc_eq rfl rfl rfl
theorem s207_80 : WP 207 0 80 [vA r, a1] S h Q ↔ WP 207 0 81 [vA r, a1] (vA r :: S) h Q := wp_aload rfl rfl
theorem s207_81 : WP 207 0 81 L (vA (some a) :: S) h Q ↔ ((hk h a).1 = 110 ∧ (zw S ≤ 8 ∧ WP 215 0 0 [vA (some a), vJ, vJ] [] h (zret 207 0 81 84 L S Q))) := wp_V1 (c := 110) rfl rfl (fun _ => rfl) rfl rfl (zcan_of rfl rfl) rfl rfl rfl
theorem s207_84 : WP 207 0 84 L S h Q ↔ WP 207 0 131 L S h Q := wp_pl rfl rfl rfl
theorem s207_87 : WP 207 0 87 [a0, vI x] S h Q ↔ WP 207 0 88 [a0, vI x] (vI x :: S) h Q := wp_iload rfl rfl
theorem s207_88 : WP 207 0 88 L (vI x :: S) h Q ↔ zif (x = 0) (WP 207 0 107 L S h Q) (WP 207 0 91 L S h Q) := wp_bE zc_eq rfl rfl rfl
theorem s207_91 : WP 207 0 91 [vA r, a1] S h Q ↔ WP 207 0 92 [vA r, a1] (vA r :: S) h Q := wp_aload rfl rfl
theorem s207_92 : WP 207 0 92 L S h Q ↔ WP 207 0 94 L (vA (some 16) :: S) h Q := wp_pl rfl rfl rfl
theorem s207_94 : WP 207 0 94 L (vA r0 :: vA (some a) :: S) h Q ↔ ((hk h a).1 = 110 ∧ (zw S ≤ 8 ∧ WP 193 0 0 [vA (some a), vA r0, vJ, vJ] [] h (zret 207 0 94 97 L S Q))) := wp_V1 (c := 110) rfl rfl (fun _ => rfl) rfl rfl (zcan_of rfl rfl) rfl rfl rfl
theorem s207_97 : WP 207 0 97 L (vI x :: S) h Q ↔ zif (x = 0) (WP 207 0 107 L S h Q) (WP 207 0 100 L S h Q) := wp_bE zc_eq rfl rfl rfl
theorem s207_100 : WP 207 0 100 [vA r, a1] S h Q ↔ WP 207 0 101 [vA r, a1] (vA r :: S) h Q := wp_aload rfl rfl
theorem s207_101 : WP 207 0 101 L (vA (some a) :: S) h Q ↔ ((hk h a).1 = 110 ∧ (zw S ≤ 8 ∧ WP 230 0 0 [vA (some a), vJ] [] h (zret 207 0 101 104 L S Q))) := wp_V1 (c := 110) rfl rfl (fun _ => rfl) rfl rfl (zcan_of rfl rfl) rfl rfl rfl
theorem s207_104 : WP 207 0 104 L S h Q ↔ WP 207 0 131 L S h Q := wp_pl rfl rfl rfl
theorem s207_107 : WP 207 0 107 [a0, vI x] S h Q ↔ WP 207 0 108 [a0, vI x] (vI x :: S) h Q := wp_iload rfl rfl
theorem s207_108 : WP 207 0 108 L (vI x :: S) h Q ↔ zif (x = 0) (WP 207 0 127 L S h Q) (WP 207 0 111 L S h Q) := wp_bE zc_eq rfl rfl rfl
theorem s207_111 : WP 207 0 111 [vA r, a1] S h Q ↔ WP 207 0 112 [vA r, a1] (vA r :: S) h Q := wp_aload rfl rfl
theorem s207_112 : WP 207 0 112 L S h Q ↔ WP 207 0 114 L (vA (some 18) :: S) h Q := wp_pl rfl rfl rfl
theorem s207_114 : WP 207 0 114 L (vA r0 :: vA (some a) :: S) h Q ↔ ((hk h a).1 = 110 ∧ (zw S ≤ 8 ∧ WP 193 0 0 [vA (some a), vA r0, vJ, vJ] [] h (zret 207 0 114 117 L S Q))) := wp_V1 (c := 110) rfl rfl (fun _ => rfl) rfl rfl (zcan_of rfl rfl) rfl rfl rfl
theorem s207_117 : WP 207 0 117 L (vI x :: S) h Q ↔ zif (x = 0) (WP 207 0 127 L S h Q) (WP 207 0 120 L S h Q) := wp_bE zc_eq rfl rfl rfl
theorem s207_120 : WP 207 0 120 [vA r, a1] S h Q ↔ WP 207 0 121 [vA r, a1] (vA r :: S) h Q := wp_aload rfl rfl
theorem s207_121 : WP 207 0 121 L (vA (some a) :: S) h Q ↔ ((hk h a).1 = 110 ∧ (zw S ≤ 8 ∧ WP 141 0 0 [vA (some a), vJ] [] h (zret 207 0 121 124 L S Q))) := wp_V1 (c := 110) rfl rfl (fun _ => rfl) rfl rfl (zcan_of rfl rfl) rfl rfl rfl
theorem s207_124 : WP 207 0 124 L S h Q ↔ WP 207 0 131 L S h Q := wp_pl rfl rfl rfl
theorem s207_127 : WP 207 0 127 [vA r, a1] S h Q ↔ WP 207 0 128 [vA r, a1] (vA r :: S) h Q := wp_aload rfl rfl
theorem s207_128 : WP 207 0 128 L (vA (some a) :: S) h Q ↔ ((hk h a).1 = 110 ∧ (zw S ≤ 8 ∧ WP 161 0 0 [vA (some a)] [] h (zret 207 0 128 131 L S Q))) := wp_V1 (c := 110) rfl rfl (fun _ => rfl) rfl rfl (zcan_of rfl rfl) rfl rfl rfl
theorem s207_131 : WP 207 0 131 [vA r, a1] S h Q ↔ WP 207 0 132 [vA r, a1] (vA r :: S) h Q := wp_aload rfl rfl
theorem s207_132 : WP 207 0 132 L S h Q ↔ WP 207 0 134 L (vI 59 :: S) h Q := wp_pl rfl rfl rfl
theorem s207_134 : WP 207 0 134 L (vI x0 :: vA (some a) :: S) h Q ↔ ((hk h a).1 = 110 ∧ (zw S ≤ 8 ∧ WP 137 0 0 [vA (some a), vI x0] [] h (zret 207 0 134 137 L S Q))) := wp_V1 (c := 110) rfl rfl (fun _ => rfl) rfl rfl (zcan_of rfl rfl) rfl rfl rfl
theorem s207_137 : WP 207 0 137 L [] h Q ↔ Q (.inl none) h := wp_ret rfl
/-! RepeatFreeModel.local(I)I -/
theorem s208_0 : WP 208 0 0 [vA r, a1, a2, a3, a4] S h Q ↔ WP 208 0 1 [vA r, a1, a2, a3, a4] (vA r :: S) h Q := wp_aload rfl rfl
theorem s208_1 : WP 208 0 1 L S h Q ↔ WP 208 0 2 L (vI 0 :: S) h Q := wp_pl rfl rfl rfl
theorem s208_2 : WP 208 0 2 L (vI x :: vA (some a) :: S) h Q ↔ ((zNC ≤ a ∧ zhas 45 (hk h a) = true) ∧ WP 208 0 5 L S (hput h a 45 (vI x)) Q) := wp_put0 rfl rfl
theorem s208_5 : WP 208 0 5 [vA r, a1, a2, a3, a4] S h Q ↔ WP 208 0 6 [vA r, a1, a2, a3, a4] (vA r :: S) h Q := wp_aload rfl rfl
theorem s208_6 : WP 208 0 6 [a0, vI x, a2, a3, a4] S h Q ↔ WP 208 0 7 [a0, vI x, a2, a3, a4] (vI x :: S) h Q := wp_iload rfl rfl
theorem s208_7 : WP 208 0 7 L S h Q ↔ WP 208 0 8 L (vI 1 :: S) h Q := wp_pl rfl rfl rfl
theorem s208_8 : WP 208 0 8 [vA r, a1, a2, a3, a4] S h Q ↔ WP 208 0 9 [vA r, a1, a2, a3, a4] (vA r :: S) h Q := wp_aload rfl rfl
theorem s208_9 : WP 208 0 9 L (vA (some a) :: S) h Q ↔ (zhas 59 (hk h a) = true ∧ WP 208 0 12 L (hm h a 59 :: S) h Q) := wp_if rfl rfl rfl
theorem s208_12 : WP 208 0 12 L S h Q ↔ WP 208 0 13 L (vI 1 :: S) h Q := wp_pl rfl rfl rfl
theorem s208_13 : WP 208 0 13 L (vI y :: vI x :: S) h Q ↔ WP 208 0 14 L (vI (wr (x - y)) :: S) h Q := wp_pl rfl rfl rfl
theorem s208_14 : WP 208 0 14 L (vI x2 :: vI x1 :: vI x0 :: S) h Q ↔ (zw S ≤ 8 ∧ WP 183 0 0 [vI x0, vI x1, vI x2] [] h (zret 208 0 14 17 L S Q)) := wp_S rfl rfl (zcan_of rfl rfl) rfl rfl rfl
theorem s208_17 : WP 208 0 17 L (vI x :: S) h Q ↔ zif (x = 0) (WP 208 0 20 L S h Q) (WP 208 0 24 L S h Q) := wp_bN zc_eq rfl rfl rfl
theorem s208_20 : WP 208 0 20 L S h Q ↔ WP 208 0 21 L (vI 1 :: S) h Q := wp_pl rfl rfl rfl
theorem s208_21 : WP 208 0 21 L S h Q ↔ WP 208 0 25 L S h Q := wp_pl rfl rfl rfl
theorem s208_24 : WP 208 0 24 L S h Q ↔ WP 208 0 25 L (vI 0 :: S) h Q := wp_pl rfl rfl rfl
theorem s208_25 : WP 208 0 25 L S h Q ↔ WP 208 0 26 L (vI 1 :: S) h Q := wp_pl rfl rfl rfl
theorem s208_26 : WP 208 0 26 L (vI x1 :: vI x0 :: vA (some a) :: S) h Q ↔ ((hk h a).1 = 110 ∧ (zw S ≤ 8 ∧ WP 248 0 0 [vA (some a), vI x0, vI x1] [] h (zret 208 0 26 29 L S Q))) := wp_V1 (c := 110) rfl rfl (fun _ => rfl) rfl rfl (zcan_of rfl rfl) rfl rfl rfl
theorem s208_29 : WP 208 0 29 L (vI x :: S) h Q ↔ zif (x = 0) (WP 208 0 34 L S h Q) (WP 208 0 32 L S h Q) := wp_bE zc_eq rfl rfl rfl
theorem s208_32 : WP 208 0 32 L S h Q ↔ WP 208 0 33 L (vI 0 :: S) h Q := wp_pl rfl rfl rfl
theorem s208_33 : WP 208 0 33 L [vI x] h Q ↔ Q (.inl (some (vI x))) h := wp_iret0 rfl rfl
theorem s208_34 : WP 208 0 34 L S h Q ↔ WP 208 0 35 L (vI 0 :: S) h Q := wp_pl rfl rfl rfl
theorem s208_35 : WP 208 0 35 [a0, a1, a2, a3, a4] (vI x :: S) h Q ↔ WP 208 0 36 [a0, a1, vI x, a3, a4] S h Q := wp_istore rfl rfl rfl
theorem s208_36 : WP 208 0 36 L S h Q ↔ WP 208 0 37 L (vI 0 :: S) h Q := wp_pl rfl rfl rfl
theorem s208_37 : WP 208 0 37 [a0, a1, a2, a3, a4] (vI x :: S) h Q ↔ WP 208 0 38 [a0, a1, a2, vI x, a4] S h Q := wp_istore rfl rfl rfl
theorem s208_38 : WP 208 0 38 [a0, a1, a2, vI x, a4] S h Q ↔ WP 208 0 39 [a0, a1, a2, vI x, a4] (vI x :: S) h Q := wp_iload rfl rfl
theorem s208_39 : WP 208 0 39 L (vI x :: S) h Q ↔ zif (x = 0) (WP 208 0 42 L S h Q) (WP 208 0 111 L S h Q) := wp_bN zc_eq rfl rfl rfl
theorem s208_42 : WP 208 0 42 [a0, a1, vI x, a3, a4] S h Q ↔ WP 208 0 45 [a0, a1, vI (wr (x + 1)), a3, a4] S h Q := wp_iinc rfl rfl rfl
theorem s208_45 : WP 208 0 45 L S h Q ↔ WP 208 0 46 L (vI 1 :: S) h Q := wp_pl rfl rfl rfl
theorem s208_46 : WP 208 0 46 [a0, a1, a2, a3, a4] (vI x :: S) h Q ↔ WP 208 0 47 [a0, a1, a2, vI x, a4] S h Q := wp_istore rfl rfl rfl
theorem s208_47 : WP 208 0 47 L S h Q ↔ WP 208 0 48 L (vI 0 :: S) h Q := wp_pl rfl rfl rfl
theorem s208_48 : WP 208 0 48 [a0, vI x, a2, a3, a4] S h Q ↔ WP 208 0 49 [a0, vI x, a2, a3, a4] (vI x :: S) h Q := wp_iload rfl rfl
theorem s208_49 : WP 208 0 49 [a0, a1, vI x, a3, a4] S h Q ↔ WP 208 0 50 [a0, a1, vI x, a3, a4] (vI x :: S) h Q := wp_iload rfl rfl
theorem s208_50 : WP 208 0 50 L (vI y :: vI x :: S) h Q ↔ WP 208 0 51 L (vI (wr (x - y)) :: S) h Q := wp_pl rfl rfl rfl
theorem s208_51 : WP 208 0 51 L (vI x1 :: vI x0 :: S) h Q ↔ (zw S ≤ 8 ∧ WP 383 0 0 [vI x0, vI x1] [] h (zret 208 0 51 54 L S Q)) := wp_S rfl rfl (zcan_of rfl rfl) rfl rfl rfl
theorem s208_54 : WP 208 0 54 [a0, a1, a2, a3, a4] (vI x :: S) h Q ↔ WP 208 0 56 [a0, a1, a2, a3, vI x] S h Q := wp_istore rfl rfl rfl
theorem s208_56 : WP 208 0 56 [a0, a1, a2, a3, vI x] S h Q ↔ WP 208 0 58 [a0, a1, a2, a3, vI x] (vI x :: S) h Q := wp_iload rfl rfl
theorem s208_58 : WP 208 0 58 [a0, vI x, a2, a3, a4] S h Q ↔ WP 208 0 59 [a0, vI x, a2, a3, a4] (vI x :: S) h Q := wp_iload rfl rfl
theorem s208_59 : WP 208 0 59 L (vI y :: vI x :: S) h Q ↔ zif (x < y) (WP 208 0 62 L S h Q) (WP 208 0 108 L S h Q) := wp_bN zc_lt rfl rfl rfl
theorem s208_62 : WP 208 0 62 [a0, a1, a2, a3, vI x] S h Q ↔ WP 208 0 64 [a0, a1, a2, a3, vI x] (vI x :: S) h Q := wp_iload rfl rfl
theorem s208_64 : WP 208 0 64 [a0, a1, vI x, a3, a4] S h Q ↔ WP 208 0 65 [a0, a1, vI x, a3, a4] (vI x :: S) h Q := wp_iload rfl rfl
theorem s208_65 : WP 208 0 65 L (vI y :: vI x :: S) h Q ↔ WP 208 0 66 L (vI (wr (x + y)) :: S) h Q := wp_pl rfl rfl rfl
theorem s208_66 : WP 208 0 66 [vA r, a1, a2, a3, a4] S h Q ↔ WP 208 0 67 [vA r, a1, a2, a3, a4] (vA r :: S) h Q := wp_aload rfl rfl
theorem s208_67 : WP 208 0 67 L (vA (some a) :: S) h Q ↔ (zhas 59 (hk h a) = true ∧ WP 208 0 70 L (hm h a 59 :: S) h Q) := wp_if rfl rfl rfl
theorem s208_70 : WP 208 0 70 L (vI y :: vI x :: S) h Q ↔ zif (x < y) (WP 208 0 73 L S h Q) (WP 208 0 108 L S h Q) := wp_bN zc_lt rfl rfl rfl
theorem s208_73 : WP 208 0 73 [a0, a1, a2, vI x, a4] S h Q ↔ WP 208 0 74 [a0, a1, a2, vI x, a4] (vI x :: S) h Q := wp_iload rfl rfl
theorem s208_74 : WP 208 0 74 L (vI x :: S) h Q ↔ zif (x = 0) (WP 208 0 100 L S h Q) (WP 208 0 77 L S h Q) := wp_bE zc_eq rfl rfl rfl
theorem s208_77 : WP 208 0 77 [vA r, a1, a2, a3, a4] S h Q ↔ WP 208 0 78 [vA r, a1, a2, a3, a4] (vA r :: S) h Q := wp_aload rfl rfl
theorem s208_78 : WP 208 0 78 L (vA (some a) :: S) h Q ↔ (zhas 57 (hk h a) = true ∧ WP 208 0 81 L (hm h a 57 :: S) h Q) := wp_if rfl rfl rfl
theorem s208_81 : WP 208 0 81 [a0, a1, a2, a3, vI x] S h Q ↔ WP 208 0 83 [a0, a1, a2, a3, vI x] (vI x :: S) h Q := wp_iload rfl rfl
theorem s208_83 : WP 208 0 83 L (vI x :: vA (some a) :: S) h Q ↔ (((hk h a).1 = 1 ∧ 0 ≤ x ∧ x < ((hk h a).2 : Int)) ∧ WP 208 0 84 L (hm h a x.toNat :: S) h Q) := wp_if rfl rfl rfl
theorem s208_84 : WP 208 0 84 [vA r, a1, a2, a3, a4] S h Q ↔ WP 208 0 85 [vA r, a1, a2, a3, a4] (vA r :: S) h Q := wp_aload rfl rfl
theorem s208_85 : WP 208 0 85 L (vA (some a) :: S) h Q ↔ (zhas 57 (hk h a) = true ∧ WP 208 0 88 L (hm h a 57 :: S) h Q) := wp_if rfl rfl rfl
theorem s208_88 : WP 208 0 88 [a0, a1, a2, a3, vI x] S h Q ↔ WP 208 0 90 [a0, a1, a2, a3, vI x] (vI x :: S) h Q := wp_iload rfl rfl
theorem s208_90 : WP 208 0 90 [a0, a1, vI x, a3, a4] S h Q ↔ WP 208 0 91 [a0, a1, vI x, a3, a4] (vI x :: S) h Q := wp_iload rfl rfl
theorem s208_91 : WP 208 0 91 L (vI y :: vI x :: S) h Q ↔ WP 208 0 92 L (vI (wr (x + y)) :: S) h Q := wp_pl rfl rfl rfl
theorem s208_92 : WP 208 0 92 L (vI x :: vA (some a) :: S) h Q ↔ (((hk h a).1 = 1 ∧ 0 ≤ x ∧ x < ((hk h a).2 : Int)) ∧ WP 208 0 93 L (hm h a x.toNat :: S) h Q) := wp_if rfl rfl rfl
theorem s208_93 : WP 208 0 93 L (vI y :: vI x :: S) h Q ↔ zif (x = y) (WP 208 0 96 L S h Q) (WP 208 0 100 L S h Q) := wp_bN zc_eq rfl rfl rfl
theorem s208_96 : WP 208 0 96 L S h Q ↔ WP 208 0 97 L (vI 1 :: S) h Q := wp_pl rfl rfl rfl
theorem s208_97 : WP 208 0 97 L S h Q ↔ WP 208 0 101 L S h Q := wp_pl rfl rfl rfl
theorem s208_100 : WP 208 0 100 L S h Q ↔ WP 208 0 101 L (vI 0 :: S) h Q := wp_pl rfl rfl rfl
theorem s208_101 : WP 208 0 101 [a0, a1, a2, a3, a4] (vI x :: S) h Q ↔ WP 208 0 102 [a0, a1, a2, vI x, a4] S h Q := wp_istore rfl rfl rfl
theorem s208_102 : WP 208 0 102 [a0, a1, a2, a3, vI x] S h Q ↔ WP 208 0 105 [a0, a1, a2, a3, vI (wr (x + 1))] S h Q := wp_iinc rfl rfl rfl
theorem s208_105 : WP 208 0 105 L S h Q ↔ WP 208 0 56 L S h Q := wp_pl rfl rfl rfl
theorem s208_108 : WP 208 0 108 L S h Q ↔ WP 208 0 38 L S h Q := wp_pl rfl rfl rfl
theorem s208_111 : WP 208 0 111 [a0, a1, vI x, a3, a4] S h Q ↔ WP 208 0 112 [a0, a1, vI x, a3, a4] (vI x :: S) h Q := wp_iload rfl rfl
theorem s208_112 : WP 208 0 112 L [vI x] h Q ↔ Q (.inl (some (vI x))) h := wp_iret0 rfl rfl
/-! RepeatFreeModel.longBy(I)I -/
theorem s209_0 : WP 209 0 0 L S h Q ↔ WP 209 0 1 L (vI 0 :: S) h Q := wp_pl rfl rfl rfl
theorem s209_1 : WP 209 0 1 [a0, a1, a2, a3] (vI x :: S) h Q ↔ WP 209 0 2 [a0, a1, vI x, a3] S h Q := wp_istore rfl rfl rfl
theorem s209_2 : WP 209 0 2 L S h Q ↔ WP 209 0 3 L (vI 0 :: S) h Q := wp_pl rfl rfl rfl
theorem s209_3 : WP 209 0 3 [a0, a1, a2, a3] (vI x :: S) h Q ↔ WP 209 0 4 [a0, a1, a2, vI x] S h Q := wp_istore rfl rfl rfl
theorem s209_4 : WP 209 0 4 [a0, a1, a2, vI x] S h Q ↔ WP 209 0 5 [a0, a1, a2, vI x] (vI x :: S) h Q := wp_iload rfl rfl
theorem s209_5 : WP 209 0 5 [vA r, a1, a2, a3] S h Q ↔ WP 209 0 6 [vA r, a1, a2, a3] (vA r :: S) h Q := wp_aload rfl rfl
theorem s209_6 : WP 209 0 6 L (vA (some a) :: S) h Q ↔ (zhas 54 (hk h a) = true ∧ WP 209 0 9 L (hm h a 54 :: S) h Q) := wp_if rfl rfl rfl
theorem s209_9 : WP 209 0 9 L S h Q ↔ WP 209 0 12 L (vI 166 :: S) h Q := wp_pl rfl rfl rfl
theorem s209_12 : WP 209 0 12 [a0, vI x, a2, a3] S h Q ↔ WP 209 0 13 [a0, vI x, a2, a3] (vI x :: S) h Q := wp_iload rfl rfl
theorem s209_13 : WP 209 0 13 L (vI y :: vI x :: S) h Q ↔ WP 209 0 14 L (vI (wr (x + y)) :: S) h Q := wp_pl rfl rfl rfl
theorem s209_14 : WP 209 0 14 L (vI x :: vA (some a) :: S) h Q ↔ (((hk h a).1 = 1 ∧ 0 ≤ x ∧ x < ((hk h a).2 : Int)) ∧ WP 209 0 15 L (hm h a x.toNat :: S) h Q) := wp_if rfl rfl rfl
theorem s209_15 : WP 209 0 15 L (vI y :: vI x :: S) h Q ↔ zif (x < y) (WP 209 0 18 L S h Q) (WP 209 0 38 L S h Q) := wp_bN zc_lt rfl rfl rfl
theorem s209_18 : WP 209 0 18 [a0, a1, vI x, a3] S h Q ↔ WP 209 0 19 [a0, a1, vI x, a3] (vI x :: S) h Q := wp_iload rfl rfl
theorem s209_19 : WP 209 0 19 [vA r, a1, a2, a3] S h Q ↔ WP 209 0 20 [vA r, a1, a2, a3] (vA r :: S) h Q := wp_aload rfl rfl
theorem s209_20 : WP 209 0 20 L (vA (some a) :: S) h Q ↔ (zhas 62 (hk h a) = true ∧ WP 209 0 23 L (hm h a 62 :: S) h Q) := wp_if rfl rfl rfl
theorem s209_23 : WP 209 0 23 [vA r, a1, a2, a3] S h Q ↔ WP 209 0 24 [vA r, a1, a2, a3] (vA r :: S) h Q := wp_aload rfl rfl
theorem s209_24 : WP 209 0 24 [a0, vI x, a2, a3] S h Q ↔ WP 209 0 25 [a0, vI x, a2, a3] (vI x :: S) h Q := wp_iload rfl rfl
theorem s209_25 : WP 209 0 25 [a0, a1, a2, vI x] S h Q ↔ WP 209 0 26 [a0, a1, a2, vI x] (vI x :: S) h Q := wp_iload rfl rfl
theorem s209_26 : WP 209 0 26 L (vI x1 :: vI x0 :: vA (some a) :: S) h Q ↔ ((hk h a).1 = 110 ∧ (zw S ≤ 8 ∧ WP 202 0 0 [vA (some a), vI x0, vI x1] [] h (zret 209 0 26 29 L S Q))) := wp_V1 (c := 110) rfl rfl (fun _ => rfl) rfl rfl (zcan_of rfl rfl) rfl rfl rfl
theorem s209_29 : WP 209 0 29 L (vI x :: vA (some a) :: S) h Q ↔ (((hk h a).1 = 1 ∧ 0 ≤ x ∧ x < ((hk h a).2 : Int)) ∧ WP 209 0 30 L (hm h a x.toNat :: S) h Q) := wp_if rfl rfl rfl
theorem s209_30 : WP 209 0 30 L (vI y :: vI x :: S) h Q ↔ WP 209 0 31 L (vI (wr (x + y)) :: S) h Q := wp_pl rfl rfl rfl
theorem s209_31 : WP 209 0 31 [a0, a1, a2, a3] (vI x :: S) h Q ↔ WP 209 0 32 [a0, a1, vI x, a3] S h Q := wp_istore rfl rfl rfl
theorem s209_32 : WP 209 0 32 [a0, a1, a2, vI x] S h Q ↔ WP 209 0 35 [a0, a1, a2, vI (wr (x + 1))] S h Q := wp_iinc rfl rfl rfl
theorem s209_35 : WP 209 0 35 L S h Q ↔ WP 209 0 4 L S h Q := wp_pl rfl rfl rfl
theorem s209_38 : WP 209 0 38 [a0, a1, vI x, a3] S h Q ↔ WP 209 0 39 [a0, a1, vI x, a3] (vI x :: S) h Q := wp_iload rfl rfl
theorem s209_39 : WP 209 0 39 L [vI x] h Q ↔ Q (.inl (some (vI x))) h := wp_iret0 rfl rfl
/-! RepeatFreeModel.longOf(II)I -/
theorem s210_0 : WP 210 0 0 [vA r, a1, a2] S h Q ↔ WP 210 0 1 [vA r, a1, a2] (vA r :: S) h Q := wp_aload rfl rfl
theorem s210_1 : WP 210 0 1 L (vA (some a) :: S) h Q ↔ (zhas 54 (hk h a) = true ∧ WP 210 0 4 L (hm h a 54 :: S) h Q) := wp_if rfl rfl rfl
theorem s210_4 : WP 210 0 4 L S h Q ↔ WP 210 0 6 L (vI 54 :: S) h Q := wp_pl rfl rfl rfl
theorem s210_6 : WP 210 0 6 L S h Q ↔ WP 210 0 7 L (vI 4 :: S) h Q := wp_pl rfl rfl rfl
theorem s210_7 : WP 210 0 7 [a0, vI x, a2] S h Q ↔ WP 210 0 8 [a0, vI x, a2] (vI x :: S) h Q := wp_iload rfl rfl
theorem s210_8 : WP 210 0 8 L (vI y :: vI x :: S) h Q ↔ WP 210 0 9 L (vI (wr (x * y)) :: S) h Q := wp_pl rfl rfl rfl
theorem s210_9 : WP 210 0 9 L (vI y :: vI x :: S) h Q ↔ WP 210 0 10 L (vI (wr (x + y)) :: S) h Q := wp_pl rfl rfl rfl
theorem s210_10 : WP 210 0 10 [a0, a1, vI x] S h Q ↔ WP 210 0 11 [a0, a1, vI x] (vI x :: S) h Q := wp_iload rfl rfl
theorem s210_11 : WP 210 0 11 L (vI y :: vI x :: S) h Q ↔ WP 210 0 12 L (vI (wr (x + y)) :: S) h Q := wp_pl rfl rfl rfl
theorem s210_12 : WP 210 0 12 L (vI x :: vA (some a) :: S) h Q ↔ (((hk h a).1 = 1 ∧ 0 ≤ x ∧ x < ((hk h a).2 : Int)) ∧ WP 210 0 13 L (hm h a x.toNat :: S) h Q) := wp_if rfl rfl rfl
theorem s210_13 : WP 210 0 13 L [vI x] h Q ↔ Q (.inl (some (vI x))) h := wp_iret0 rfl rfl
/-! RepeatFreeModel.longest()I -/
theorem s211_0 : WP 211 0 0 [vA r, a1, a2] S h Q ↔ WP 211 0 1 [vA r, a1, a2] (vA r :: S) h Q := wp_aload rfl rfl
theorem s211_1 : WP 211 0 1 L S h Q ↔ WP 211 0 2 L (vI 0 :: S) h Q := wp_pl rfl rfl rfl
theorem s211_2 : WP 211 0 2 L (vI x :: vA (some a) :: S) h Q ↔ ((zNC ≤ a ∧ zhas 45 (hk h a) = true) ∧ WP 211 0 5 L S (hput h a 45 (vI x)) Q) := wp_put0 rfl rfl
theorem s211_5 : WP 211 0 5 L S h Q ↔ WP 211 0 6 L (vI 1 :: S) h Q := wp_pl rfl rfl rfl
theorem s211_6 : WP 211 0 6 [a0, a1, a2] (vI x :: S) h Q ↔ WP 211 0 7 [a0, vI x, a2] S h Q := wp_istore rfl rfl rfl
theorem s211_7 : WP 211 0 7 [a0, vI x, a2] S h Q ↔ WP 211 0 8 [a0, vI x, a2] (vI x :: S) h Q := wp_iload rfl rfl
theorem s211_8 : WP 211 0 8 L S h Q ↔ WP 211 0 10 L (vI 40 :: S) h Q := wp_pl rfl rfl rfl
theorem s211_10 : WP 211 0 10 L (vI y :: vI x :: S) h Q ↔ zif (y < x) (WP 211 0 52 L S h Q) (WP 211 0 13 L S h Q) := wp_bE zc_gt rfl rfl rfl
theorem s211_13 : WP 211 0 13 [vA r, a1, a2] S h Q ↔ WP 211 0 14 [vA r, a1, a2] (vA r :: S) h Q := wp_aload rfl rfl
theorem s211_14 : WP 211 0 14 L (vA (some a) :: S) h Q ↔ ((hk h a).1 = 110 ∧ (zw S ≤ 8 ∧ WP 243 0 0 [vA (some a)] [] h (zret 211 0 14 17 L S Q))) := wp_V1 (c := 110) rfl rfl (fun _ => rfl) rfl rfl (zcan_of rfl rfl) rfl rfl rfl
theorem s211_17 : WP 211 0 17 [vA r, a1, a2] S h Q ↔ WP 211 0 18 [vA r, a1, a2] (vA r :: S) h Q := wp_aload rfl rfl
theorem s211_18 : WP 211 0 18 L S h Q ↔ WP 211 0 19 L (vI 0 :: S) h Q := wp_pl rfl rfl rfl
theorem s211_19 : WP 211 0 19 [a0, vI x, a2] S h Q ↔ WP 211 0 20 [a0, vI x, a2] (vI x :: S) h Q := wp_iload rfl rfl
theorem s211_20 : WP 211 0 20 L S h Q ↔ WP 211 0 21 L (vI 0 :: S) h Q := wp_pl rfl rfl rfl
theorem s211_21 : WP 211 0 21 L (vI x2 :: vI x1 :: vI x0 :: vA (some a) :: S) h Q ↔ ((hk h a).1 = 110 ∧ (zw S ≤ 8 ∧ WP 241 44 0 [vA (some a), vI x0, vI x1, vI x2, vJ] [] h (zret 211 0 21 24 L S Q))) := wp_V1 (c := 110) rfl rfl (fun _ => rfl) rfl rfl (zcan_of rfl rfl) rfl rfl rfl
theorem s211_24 : WP 211 0 24 [a0, a1, a2] (vI x :: S) h Q ↔ WP 211 0 25 [a0, a1, vI x] S h Q := wp_istore rfl rfl rfl
theorem s211_25 : WP 211 0 25 [vA r, a1, a2] S h Q ↔ WP 211 0 26 [vA r, a1, a2] (vA r :: S) h Q := wp_aload rfl rfl
theorem s211_26 : WP 211 0 26 L (vA (some a) :: S) h Q ↔ (zhas 67 (hk h a) = true ∧ WP 211 0 29 L (hm h a 67 :: S) h Q) := wp_if rfl rfl rfl
theorem s211_29 : WP 211 0 29 L (vI x :: S) h Q ↔ zif (x = 0) (WP 211 0 35 L S h Q) (WP 211 0 32 L S h Q) := wp_bE zc_eq rfl rfl rfl
theorem s211_32 : WP 211 0 32 L S h Q ↔ WP 211 0 34 L (vI (-2) :: S) h Q := wp_pl rfl rfl rfl
theorem s211_34 : WP 211 0 34 L [vI x] h Q ↔ Q (.inl (some (vI x))) h := wp_iret0 rfl rfl
theorem s211_35 : WP 211 0 35 [vA r, a1, a2] S h Q ↔ WP 211 0 36 [vA r, a1, a2] (vA r :: S) h Q := wp_aload rfl rfl
theorem s211_36 : WP 211 0 36 L (vA (some a) :: S) h Q ↔ (zhas 70 (hk h a) = true ∧ WP 211 0 39 L (hm h a 70 :: S) h Q) := wp_if rfl rfl rfl
theorem s211_39 : WP 211 0 39 L (vI x :: S) h Q ↔ zif (x = 0) (WP 211 0 42 L S h Q) (WP 211 0 46 L S h Q) := wp_bN zc_eq rfl rfl rfl
theorem s211_42 : WP 211 0 42 [a0, vI x, a2] S h Q ↔ WP 211 0 43 [a0, vI x, a2] (vI x :: S) h Q := wp_iload rfl rfl
theorem s211_43 : WP 211 0 43 L S h Q ↔ WP 211 0 44 L (vI 1 :: S) h Q := wp_pl rfl rfl rfl
theorem s211_44 : WP 211 0 44 L (vI y :: vI x :: S) h Q ↔ WP 211 0 45 L (vI (wr (x - y)) :: S) h Q := wp_pl rfl rfl rfl
theorem s211_45 : WP 211 0 45 L [vI x] h Q ↔ Q (.inl (some (vI x))) h := wp_iret0 rfl rfl
theorem s211_46 : WP 211 0 46 [a0, vI x, a2] S h Q ↔ WP 211 0 49 [a0, vI (wr (x + 1)), a2] S h Q := wp_iinc rfl rfl rfl
theorem s211_49 : WP 211 0 49 L S h Q ↔ WP 211 0 7 L S h Q := wp_pl rfl rfl rfl
theorem s211_52 : WP 211 0 52 L S h Q ↔ WP 211 0 54 L (vI 40 :: S) h Q := wp_pl rfl rfl rfl
theorem s211_54 : WP 211 0 54 L [vI x] h Q ↔ Q (.inl (some (vI x))) h := wp_iret0 rfl rfl
/-! RepeatFreeModel.loose(II)I -/
theorem s212_0 : WP 212 0 0 [vA r, a1, a2, a3, a4] S h Q ↔ WP 212 0 1 [vA r, a1, a2, a3, a4] (vA r :: S) h Q := wp_aload rfl rfl
theorem s212_1 : WP 212 0 1 L S h Q ↔ WP 212 0 2 L (vI 0 :: S) h Q := wp_pl rfl rfl rfl
theorem s212_2 : WP 212 0 2 L (vI x :: vA (some a) :: S) h Q ↔ ((zNC ≤ a ∧ zhas 45 (hk h a) = true) ∧ WP 212 0 5 L S (hput h a 45 (vI x)) Q) := wp_put0 rfl rfl
theorem s212_5 : WP 212 0 5 [vA r, a1, a2, a3, a4] S h Q ↔ WP 212 0 6 [vA r, a1, a2, a3, a4] (vA r :: S) h Q := wp_aload rfl rfl
theorem s212_6 : WP 212 0 6 [a0, vI x, a2, a3, a4] S h Q ↔ WP 212 0 7 [a0, vI x, a2, a3, a4] (vI x :: S) h Q := wp_iload rfl rfl
theorem s212_7 : WP 212 0 7 L (vI x0 :: vA (some a) :: S) h Q ↔ ((hk h a).1 = 110 ∧ (zw S ≤ 8 ∧ WP 224 0 0 [vA (some a), vI x0] [] h (zret 212 0 7 10 L S Q))) := wp_V1 (c := 110) rfl rfl (fun _ => rfl) rfl rfl (zcan_of rfl rfl) rfl rfl rfl
theorem s212_10 : WP 212 0 10 L (vI x :: S) h Q ↔ zif (x = 0) (WP 212 0 15 L S h Q) (WP 212 0 13 L S h Q) := wp_bE zc_eq rfl rfl rfl
theorem s212_13 : WP 212 0 13 L S h Q ↔ WP 212 0 14 L (vI 0 :: S) h Q := wp_pl rfl rfl rfl
theorem s212_14 : WP 212 0 14 L [vI x] h Q ↔ Q (.inl (some (vI x))) h := wp_iret0 rfl rfl
theorem s212_15 : WP 212 0 15 L S h Q ↔ WP 212 0 16 L (vI 0 :: S) h Q := wp_pl rfl rfl rfl
theorem s212_16 : WP 212 0 16 [a0, a1, a2, a3, a4] (vI x :: S) h Q ↔ WP 212 0 17 [a0, a1, a2, vI x, a4] S h Q := wp_istore rfl rfl rfl
theorem s212_17 : WP 212 0 17 L S h Q ↔ WP 212 0 18 L (vI 1 :: S) h Q := wp_pl rfl rfl rfl
theorem s212_18 : WP 212 0 18 [a0, a1, a2, a3, a4] (vI x :: S) h Q ↔ WP 212 0 20 [a0, a1, a2, a3, vI x] S h Q := wp_istore rfl rfl rfl
theorem s212_20 : WP 212 0 20 [a0, a1, a2, a3, vI x] S h Q ↔ WP 212 0 22 [a0, a1, a2, a3, vI x] (vI x :: S) h Q := wp_iload rfl rfl
theorem s212_22 : WP 212 0 22 L S h Q ↔ WP 212 0 24 L (vI 8 :: S) h Q := wp_pl rfl rfl rfl
theorem s212_24 : WP 212 0 24 L (vI y :: vI x :: S) h Q ↔ zif (x < y) (WP 212 0 27 L S h Q) (WP 212 0 71 L S h Q) := wp_bN zc_lt rfl rfl rfl
theorem s212_27 : WP 212 0 27 [a0, a1, a2, a3, vI x] S h Q ↔ WP 212 0 29 [a0, a1, a2, a3, vI x] (vI x :: S) h Q := wp_iload rfl rfl
theorem s212_29 : WP 212 0 29 [vA r, a1, a2, a3, a4] S h Q ↔ WP 212 0 30 [vA r, a1, a2, a3, a4] (vA r :: S) h Q := wp_aload rfl rfl
theorem s212_30 : WP 212 0 30 [a0, vI x, a2, a3, a4] S h Q ↔ WP 212 0 31 [a0, vI x, a2, a3, a4] (vI x :: S) h Q := wp_iload rfl rfl
theorem s212_31 : WP 212 0 31 L (vI x0 :: vA (some a) :: S) h Q ↔ ((hk h a).1 = 110 ∧ (zw S ≤ 8 ∧ WP 204 0 0 [vA (some a), vI x0, vJ, vJ] [] h (zret 212 0 31 34 L S Q))) := wp_V1 (c := 110) rfl rfl (fun _ => rfl) rfl rfl (zcan_of rfl rfl) rfl rfl rfl
theorem s212_34 : WP 212 0 34 L S h Q ↔ WP 212 0 35 L (vI (-1) :: S) h Q := wp_pl rfl rfl rfl
theorem s212_35 : WP 212 0 35 L (vI y :: vI x :: S) h Q ↔ WP 212 0 36 L (vI (zxor x y) :: S) h Q := wp_pl rfl rfl rfl
theorem s212_36 : WP 212 0 36 L (vI y :: vI x :: S) h Q ↔ WP 212 0 37 L (vI (zand x y) :: S) h Q := wp_pl rfl rfl rfl
theorem s212_37 : WP 212 0 37 L (vI x :: S) h Q ↔ zif (x = 0) (WP 212 0 40 L S h Q) (WP 212 0 65 L S h Q) := wp_bN zc_eq rfl rfl rfl
theorem s212_40 : WP 212 0 40 [vA r, a1, a2, a3, a4] S h Q ↔ WP 212 0 41 [vA r, a1, a2, a3, a4] (vA r :: S) h Q := wp_aload rfl rfl
theorem s212_41 : WP 212 0 41 [a0, vI x, a2, a3, a4] S h Q ↔ WP 212 0 42 [a0, vI x, a2, a3, a4] (vI x :: S) h Q := wp_iload rfl rfl
theorem s212_42 : WP 212 0 42 L S h Q ↔ WP 212 0 43 L (vI 0 :: S) h Q := wp_pl rfl rfl rfl
theorem s212_43 : WP 212 0 43 [a0, a1, a2, a3, vI x] S h Q ↔ WP 212 0 45 [a0, a1, a2, a3, vI x] (vI x :: S) h Q := wp_iload rfl rfl
theorem s212_45 : WP 212 0 45 L (vI x2 :: vI x1 :: vI x0 :: vA (some a) :: S) h Q ↔ ((hk h a).1 = 110 ∧ (zw S ≤ 8 ∧ WP 189 0 0 [vA (some a), vI x0, vI x1, vI x2, vJ, vJ, vJ] [] h (zret 212 0 45 48 L S Q))) := wp_V1 (c := 110) rfl rfl (fun _ => rfl) rfl rfl (zcan_of rfl rfl) rfl rfl rfl
theorem s212_48 : WP 212 0 48 L (vI x :: S) h Q ↔ zif (x = 0) (WP 212 0 51 L S h Q) (WP 212 0 54 L S h Q) := wp_bN zc_eq rfl rfl rfl
theorem s212_51 : WP 212 0 51 L S h Q ↔ WP 212 0 65 L S h Q := wp_pl rfl rfl rfl
theorem s212_54 : WP 212 0 54 [a0, a1, a2, vI x, a4] S h Q ↔ WP 212 0 55 [a0, a1, a2, vI x, a4] (vI x :: S) h Q := wp_iload rfl rfl
theorem s212_55 : WP 212 0 55 [a0, a1, vI x, a3, a4] S h Q ↔ WP 212 0 56 [a0, a1, vI x, a3, a4] (vI x :: S) h Q := wp_iload rfl rfl
theorem s212_56 : WP 212 0 56 L (vI y :: vI x :: S) h Q ↔ zif (x = y) (WP 212 0 59 L S h Q) (WP 212 0 62 L S h Q) := wp_bN zc_eq rfl rfl rfl
theorem s212_59 : WP 212 0 59 [a0, a1, a2, a3, vI x] S h Q ↔ WP 212 0 61 [a0, a1, a2, a3, vI x] (vI x :: S) h Q := wp_iload rfl rfl
theorem s212_61 : WP 212 0 61 L [vI x] h Q ↔ Q (.inl (some (vI x))) h := wp_iret0 rfl rfl
theorem s212_62 : WP 212 0 62 [a0, a1, a2, vI x, a4] S h Q ↔ WP 212 0 65 [a0, a1, a2, vI (wr (x + 1)), a4] S h Q := wp_iinc rfl rfl rfl
theorem s212_65 : WP 212 0 65 [a0, a1, a2, a3, vI x] S h Q ↔ WP 212 0 68 [a0, a1, a2, a3, vI (wr (x + 1))] S h Q := wp_iinc rfl rfl rfl
theorem s212_68 : WP 212 0 68 L S h Q ↔ WP 212 0 20 L S h Q := wp_pl rfl rfl rfl
theorem s212_71 : WP 212 0 71 [a0, a1, vI x, a3, a4] S h Q ↔ WP 212 0 72 [a0, a1, vI x, a3, a4] (vI x :: S) h Q := wp_iload rfl rfl
theorem s212_72 : WP 212 0 72 L S h Q ↔ WP 212 0 73 L (vI (-1) :: S) h Q := wp_pl rfl rfl rfl
theorem s212_73 : WP 212 0 73 L (vI y :: vI x :: S) h Q ↔ zif (x = y) (WP 212 0 76 L S h Q) (WP 212 0 80 L S h Q) := wp_bN zc_eq rfl rfl rfl
theorem s212_76 : WP 212 0 76 [a0, a1, a2, vI x, a4] S h Q ↔ WP 212 0 77 [a0, a1, a2, vI x, a4] (vI x :: S) h Q := wp_iload rfl rfl
theorem s212_77 : WP 212 0 77 L S h Q ↔ WP 212 0 81 L S h Q := wp_pl rfl rfl rfl
theorem s212_80 : WP 212 0 80 L S h Q ↔ WP 212 0 81 L (vI (-1) :: S) h Q := wp_pl rfl rfl rfl
theorem s212_81 : WP 212 0 81 L [vI x] h Q ↔ Q (.inl (some (vI x))) h := wp_iret0 rfl rfl
/-! RepeatFreeModel.lyndon(I)I -/
theorem s213_0 : WP 213 0 0 [vA r, a1, a2, a3, a4, a5, a6] S h Q ↔ WP 213 0 1 [vA r, a1, a2, a3, a4, a5, a6] (vA r :: S) h Q := wp_aload rfl rfl
theorem s213_1 : WP 213 0 1 L S h Q ↔ WP 213 0 2 L (vI 0 :: S) h Q := wp_pl rfl rfl rfl
theorem s213_2 : WP 213 0 2 L (vI x :: vA (some a) :: S) h Q ↔ ((zNC ≤ a ∧ zhas 45 (hk h a) = true) ∧ WP 213 0 5 L S (hput h a 45 (vI x)) Q) := wp_put0 rfl rfl
theorem s213_5 : WP 213 0 5 L S h Q ↔ WP 213 0 6 L (vI 0 :: S) h Q := wp_pl rfl rfl rfl
theorem s213_6 : WP 213 0 6 [a0, a1, a2, a3, a4, a5, a6] (vI x :: S) h Q ↔ WP 213 0 7 [a0, a1, vI x, a3, a4, a5, a6] S h Q := wp_istore rfl rfl rfl
theorem s213_7 : WP 213 0 7 L S h Q ↔ WP 213 0 8 L (vI 0 :: S) h Q := wp_pl rfl rfl rfl
theorem s213_8 : WP 213 0 8 [a0, a1, a2, a3, a4, a5, a6] (vI x :: S) h Q ↔ WP 213 0 9 [a0, a1, a2, vI x, a4, a5, a6] S h Q := wp_istore rfl rfl rfl
theorem s213_9 : WP 213 0 9 [a0, a1, a2, vI x, a4, a5, a6] S h Q ↔ WP 213 0 10 [a0, a1, a2, vI x, a4, a5, a6] (vI x :: S) h Q := wp_iload rfl rfl
theorem s213_10 : WP 213 0 10 [vA r, a1, a2, a3, a4, a5, a6] S h Q ↔ WP 213 0 11 [vA r, a1, a2, a3, a4, a5, a6] (vA r :: S) h Q := wp_aload rfl rfl
theorem s213_11 : WP 213 0 11 L (vA (some a) :: S) h Q ↔ (zhas 59 (hk h a) = true ∧ WP 213 0 14 L (hm h a 59 :: S) h Q) := wp_if rfl rfl rfl
theorem s213_14 : WP 213 0 14 L (vI y :: vI x :: S) h Q ↔ zif (x < y) (WP 213 0 17 L S h Q) (WP 213 0 119 L S h Q) := wp_bN zc_lt rfl rfl rfl
theorem s213_17 : WP 213 0 17 [a0, a1, a2, vI x, a4, a5, a6] S h Q ↔ WP 213 0 18 [a0, a1, a2, vI x, a4, a5, a6] (vI x :: S) h Q := wp_iload rfl rfl
theorem s213_18 : WP 213 0 18 [a0, a1, a2, a3, a4, a5, a6] (vI x :: S) h Q ↔ WP 213 0 20 [a0, a1, a2, a3, vI x, a5, a6] S h Q := wp_istore rfl rfl rfl
theorem s213_20 : WP 213 0 20 [a0, a1, a2, vI x, a4, a5, a6] S h Q ↔ WP 213 0 21 [a0, a1, a2, vI x, a4, a5, a6] (vI x :: S) h Q := wp_iload rfl rfl
theorem s213_21 : WP 213 0 21 L S h Q ↔ WP 213 0 22 L (vI 1 :: S) h Q := wp_pl rfl rfl rfl
theorem s213_22 : WP 213 0 22 L (vI y :: vI x :: S) h Q ↔ WP 213 0 23 L (vI (wr (x + y)) :: S) h Q := wp_pl rfl rfl rfl
theorem s213_23 : WP 213 0 23 [a0, a1, a2, a3, a4, a5, a6] (vI x :: S) h Q ↔ WP 213 0 25 [a0, a1, a2, a3, a4, vI x, a6] S h Q := wp_istore rfl rfl rfl
theorem s213_25 : WP 213 0 25 [a0, a1, a2, a3, a4, vI x, a6] S h Q ↔ WP 213 0 27 [a0, a1, a2, a3, a4, vI x, a6] (vI x :: S) h Q := wp_iload rfl rfl
theorem s213_27 : WP 213 0 27 [vA r, a1, a2, a3, a4, a5, a6] S h Q ↔ WP 213 0 28 [vA r, a1, a2, a3, a4, a5, a6] (vA r :: S) h Q := wp_aload rfl rfl
theorem s213_28 : WP 213 0 28 L (vA (some a) :: S) h Q ↔ (zhas 59 (hk h a) = true ∧ WP 213 0 31 L (hm h a 59 :: S) h Q) := wp_if rfl rfl rfl
theorem s213_31 : WP 213 0 31 L (vI y :: vI x :: S) h Q ↔ zif (x < y) (WP 213 0 34 L S h Q) (WP 213 0 84 L S h Q) := wp_bN zc_lt rfl rfl rfl
theorem s213_34 : WP 213 0 34 [vA r, a1, a2, a3, a4, a5, a6] S h Q ↔ WP 213 0 35 [vA r, a1, a2, a3, a4, a5, a6] (vA r :: S) h Q := wp_aload rfl rfl
theorem s213_35 : WP 213 0 35 L (vA (some a) :: S) h Q ↔ (zhas 57 (hk h a) = true ∧ WP 213 0 38 L (hm h a 57 :: S) h Q) := wp_if rfl rfl rfl
theorem s213_38 : WP 213 0 38 [a0, a1, a2, a3, vI x, a5, a6] S h Q ↔ WP 213 0 40 [a0, a1, a2, a3, vI x, a5, a6] (vI x :: S) h Q := wp_iload rfl rfl
theorem s213_40 : WP 213 0 40 L (vI x :: vA (some a) :: S) h Q ↔ (((hk h a).1 = 1 ∧ 0 ≤ x ∧ x < ((hk h a).2 : Int)) ∧ WP 213 0 41 L (hm h a x.toNat :: S) h Q) := wp_if rfl rfl rfl
theorem s213_41 : WP 213 0 41 [vA r, a1, a2, a3, a4, a5, a6] S h Q ↔ WP 213 0 42 [vA r, a1, a2, a3, a4, a5, a6] (vA r :: S) h Q := wp_aload rfl rfl
theorem s213_42 : WP 213 0 42 L (vA (some a) :: S) h Q ↔ (zhas 57 (hk h a) = true ∧ WP 213 0 45 L (hm h a 57 :: S) h Q) := wp_if rfl rfl rfl
theorem s213_45 : WP 213 0 45 [a0, a1, a2, a3, a4, vI x, a6] S h Q ↔ WP 213 0 47 [a0, a1, a2, a3, a4, vI x, a6] (vI x :: S) h Q := wp_iload rfl rfl
theorem s213_47 : WP 213 0 47 L (vI x :: vA (some a) :: S) h Q ↔ (((hk h a).1 = 1 ∧ 0 ≤ x ∧ x < ((hk h a).2 : Int)) ∧ WP 213 0 48 L (hm h a x.toNat :: S) h Q) := wp_if rfl rfl rfl
theorem s213_48 : WP 213 0 48 L (vI y :: vI x :: S) h Q ↔ zif (y < x) (WP 213 0 84 L S h Q) (WP 213 0 51 L S h Q) := wp_bE zc_gt rfl rfl rfl
theorem s213_51 : WP 213 0 51 [vA r, a1, a2, a3, a4, a5, a6] S h Q ↔ WP 213 0 52 [vA r, a1, a2, a3, a4, a5, a6] (vA r :: S) h Q := wp_aload rfl rfl
theorem s213_52 : WP 213 0 52 L (vA (some a) :: S) h Q ↔ (zhas 57 (hk h a) = true ∧ WP 213 0 55 L (hm h a 57 :: S) h Q) := wp_if rfl rfl rfl
theorem s213_55 : WP 213 0 55 [a0, a1, a2, a3, vI x, a5, a6] S h Q ↔ WP 213 0 57 [a0, a1, a2, a3, vI x, a5, a6] (vI x :: S) h Q := wp_iload rfl rfl
theorem s213_57 : WP 213 0 57 L (vI x :: vA (some a) :: S) h Q ↔ (((hk h a).1 = 1 ∧ 0 ≤ x ∧ x < ((hk h a).2 : Int)) ∧ WP 213 0 58 L (hm h a x.toNat :: S) h Q) := wp_if rfl rfl rfl
theorem s213_58 : WP 213 0 58 [vA r, a1, a2, a3, a4, a5, a6] S h Q ↔ WP 213 0 59 [vA r, a1, a2, a3, a4, a5, a6] (vA r :: S) h Q := wp_aload rfl rfl
theorem s213_59 : WP 213 0 59 L (vA (some a) :: S) h Q ↔ (zhas 57 (hk h a) = true ∧ WP 213 0 62 L (hm h a 57 :: S) h Q) := wp_if rfl rfl rfl
theorem s213_62 : WP 213 0 62 [a0, a1, a2, a3, a4, vI x, a6] S h Q ↔ WP 213 0 64 [a0, a1, a2, a3, a4, vI x, a6] (vI x :: S) h Q := wp_iload rfl rfl
theorem s213_64 : WP 213 0 64 L (vI x :: vA (some a) :: S) h Q ↔ (((hk h a).1 = 1 ∧ 0 ≤ x ∧ x < ((hk h a).2 : Int)) ∧ WP 213 0 65 L (hm h a x.toNat :: S) h Q) := wp_if rfl rfl rfl
theorem s213_65 : WP 213 0 65 L (vI y :: vI x :: S) h Q ↔ zif (x = y) (WP 213 0 68 L S h Q) (WP 213 0 75 L S h Q) := wp_bN zc_eq rfl rfl rfl
theorem s213_68 : WP 213 0 68 [a0, a1, a2, a3, vI x, a5, a6] S h Q ↔ WP 213 0 70 [a0, a1, a2, a3, vI x, a5, a6] (vI x :: S) h Q := wp_iload rfl rfl
theorem s213_70 : WP 213 0 70 L S h Q ↔ WP 213 0 71 L (vI 1 :: S) h Q := wp_pl rfl rfl rfl
theorem s213_71 : WP 213 0 71 L (vI y :: vI x :: S) h Q ↔ WP 213 0 72 L (vI (wr (x + y)) :: S) h Q := wp_pl rfl rfl rfl
theorem s213_72 : WP 213 0 72 L S h Q ↔ WP 213 0 76 L S h Q := wp_pl rfl rfl rfl
theorem s213_75 : WP 213 0 75 [a0, a1, a2, vI x, a4, a5, a6] S h Q ↔ WP 213 0 76 [a0, a1, a2, vI x, a4, a5, a6] (vI x :: S) h Q := wp_iload rfl rfl
theorem s213_76 : WP 213 0 76 [a0, a1, a2, a3, a4, a5, a6] (vI x :: S) h Q ↔ WP 213 0 78 [a0, a1, a2, a3, vI x, a5, a6] S h Q := wp_istore rfl rfl rfl
theorem s213_78 : WP 213 0 78 [a0, a1, a2, a3, a4, vI x, a6] S h Q ↔ WP 213 0 81 [a0, a1, a2, a3, a4, vI (wr (x + 1)), a6] S h Q := wp_iinc rfl rfl rfl
theorem s213_81 : WP 213 0 81 L S h Q ↔ WP 213 0 25 L S h Q := wp_pl rfl rfl rfl
theorem s213_84 : WP 213 0 84 [a0, a1, a2, a3, a4, vI x, a6] S h Q ↔ WP 213 0 86 [a0, a1, a2, a3, a4, vI x, a6] (vI x :: S) h Q := wp_iload rfl rfl
theorem s213_86 : WP 213 0 86 [a0, a1, a2, a3, vI x, a5, a6] S h Q ↔ WP 213 0 88 [a0, a1, a2, a3, vI x, a5, a6] (vI x :: S) h Q := wp_iload rfl rfl
theorem s213_88 : WP 213 0 88 L (vI y :: vI x :: S) h Q ↔ WP 213 0 89 L (vI (wr (x - y)) :: S) h Q := wp_pl rfl rfl rfl
theorem s213_89 : WP 213 0 89 [a0, a1, a2, a3, a4, a5, a6] (vI x :: S) h Q ↔ WP 213 0 91 [a0, a1, a2, a3, a4, a5, vI x] S h Q := wp_istore rfl rfl rfl
theorem s213_91 : WP 213 0 91 [a0, a1, a2, vI x, a4, a5, a6] S h Q ↔ WP 213 0 92 [a0, a1, a2, vI x, a4, a5, a6] (vI x :: S) h Q := wp_iload rfl rfl
theorem s213_92 : WP 213 0 92 [a0, a1, a2, a3, vI x, a5, a6] S h Q ↔ WP 213 0 94 [a0, a1, a2, a3, vI x, a5, a6] (vI x :: S) h Q := wp_iload rfl rfl
theorem s213_94 : WP 213 0 94 L (vI y :: vI x :: S) h Q ↔ zif (y < x) (WP 213 0 116 L S h Q) (WP 213 0 97 L S h Q) := wp_bE zc_gt rfl rfl rfl
theorem s213_97 : WP 213 0 97 [a0, a1, vI x, a3, a4, a5, a6] S h Q ↔ WP 213 0 98 [a0, a1, vI x, a3, a4, a5, a6] (vI x :: S) h Q := wp_iload rfl rfl
theorem s213_98 : WP 213 0 98 [a0, vI x, a2, a3, a4, a5, a6] S h Q ↔ WP 213 0 99 [a0, vI x, a2, a3, a4, a5, a6] (vI x :: S) h Q := wp_iload rfl rfl
theorem s213_99 : WP 213 0 99 L (vI y :: vI x :: S) h Q ↔ zif (x = y) (WP 213 0 102 L S h Q) (WP 213 0 105 L S h Q) := wp_bN zc_eq rfl rfl rfl
theorem s213_102 : WP 213 0 102 [a0, a1, a2, a3, a4, a5, vI x] S h Q ↔ WP 213 0 104 [a0, a1, a2, a3, a4, a5, vI x] (vI x :: S) h Q := wp_iload rfl rfl
theorem s213_104 : WP 213 0 104 L [vI x] h Q ↔ Q (.inl (some (vI x))) h := wp_iret0 rfl rfl
theorem s213_105 : WP 213 0 105 [a0, a1, vI x, a3, a4, a5, a6] S h Q ↔ WP 213 0 108 [a0, a1, vI (wr (x + 1)), a3, a4, a5, a6] S h Q := wp_iinc rfl rfl rfl
theorem s213_108 : WP 213 0 108 [a0, a1, a2, vI x, a4, a5, a6] S h Q ↔ WP 213 0 109 [a0, a1, a2, vI x, a4, a5, a6] (vI x :: S) h Q := wp_iload rfl rfl
theorem s213_109 : WP 213 0 109 [a0, a1, a2, a3, a4, a5, vI x] S h Q ↔ WP 213 0 111 [a0, a1, a2, a3, a4, a5, vI x] (vI x :: S) h Q := wp_iload rfl rfl
theorem s213_111 : WP 213 0 111 L (vI y :: vI x :: S) h Q ↔ WP 213 0 112 L (vI (wr (x + y)) :: S) h Q := wp_pl rfl rfl rfl
theorem s213_112 : WP 213 0 112 [a0, a1, a2, a3, a4, a5, a6] (vI x :: S) h Q ↔ WP 213 0 113 [a0, a1, a2, vI x, a4, a5, a6] S h Q := wp_istore rfl rfl rfl
theorem s213_113 : WP 213 0 113 L S h Q ↔ WP 213 0 91 L S h Q := wp_pl rfl rfl rfl
theorem s213_116 : WP 213 0 116 L S h Q ↔ WP 213 0 9 L S h Q := wp_pl rfl rfl rfl
theorem s213_119 : WP 213 0 119 [a0, vI x, a2, a3, a4, a5, a6] S h Q ↔ WP 213 0 120 [a0, vI x, a2, a3, a4, a5, a6] (vI x :: S) h Q := wp_iload rfl rfl
theorem s213_120 : WP 213 0 120 L S h Q ↔ WP 213 0 121 L (vI (-1) :: S) h Q := wp_pl rfl rfl rfl
theorem s213_121 : WP 213 0 121 L (vI y :: vI x :: S) h Q ↔ zif (x = y) (WP 213 0 124 L S h Q) (WP 213 0 128 L S h Q) := wp_bN zc_eq rfl rfl rfl
theorem s213_124 : WP 213 0 124 [a0, a1, vI x, a3, a4, a5, a6] S h Q ↔ WP 213 0 125 [a0, a1, vI x, a3, a4, a5, a6] (vI x :: S) h Q := wp_iload rfl rfl
theorem s213_125 : WP 213 0 125 L S h Q ↔ WP 213 0 129 L S h Q := wp_pl rfl rfl rfl
theorem s213_128 : WP 213 0 128 L S h Q ↔ WP 213 0 129 L (vI (-1) :: S) h Q := wp_pl rfl rfl rfl
theorem s213_129 : WP 213 0 129 L [vI x] h Q ↔ Q (.inl (some (vI x))) h := wp_iret0 rfl rfl
/-! RepeatFreeModel.many(I)I -/
theorem s214_0 : WP 214 0 0 [vA r, a1] S h Q ↔ WP 214 0 1 [vA r, a1] (vA r :: S) h Q := wp_aload rfl rfl
theorem s214_1 : WP 214 0 1 L S h Q ↔ WP 214 0 2 L (vI 0 :: S) h Q := wp_pl rfl rfl rfl
theorem s214_2 : WP 214 0 2 L (vI x :: vA (some a) :: S) h Q ↔ ((zNC ≤ a ∧ zhas 45 (hk h a) = true) ∧ WP 214 0 5 L S (hput h a 45 (vI x)) Q) := wp_put0 rfl rfl
theorem s214_5 : WP 214 0 5 [vA r, a1] S h Q ↔ WP 214 0 6 [vA r, a1] (vA r :: S) h Q := wp_aload rfl rfl
theorem s214_6 : WP 214 0 6 [a0, vI x] S h Q ↔ WP 214 0 7 [a0, vI x] (vI x :: S) h Q := wp_iload rfl rfl
theorem s214_7 : WP 214 0 7 L S h Q ↔ WP 214 0 8 L (vI 0 :: S) h Q := wp_pl rfl rfl rfl
theorem s214_8 : WP 214 0 8 L S h Q ↔ WP 214 0 10 L (vI 40 :: S) h Q := wp_pl rfl rfl rfl
theorem s214_10 : WP 214 0 10 L (vI x2 :: vI x1 :: vI x0 :: S) h Q ↔ (zw S ≤ 8 ∧ WP 183 0 0 [vI x0, vI x1, vI x2] [] h (zret 214 0 10 13 L S Q)) := wp_S rfl rfl (zcan_of rfl rfl) rfl rfl rfl
theorem s214_13 : WP 214 0 13 L (vI x :: S) h Q ↔ zif (x = 0) (WP 214 0 16 L S h Q) (WP 214 0 20 L S h Q) := wp_bN zc_eq rfl rfl rfl
theorem s214_16 : WP 214 0 16 L S h Q ↔ WP 214 0 17 L (vI 1 :: S) h Q := wp_pl rfl rfl rfl
theorem s214_17 : WP 214 0 17 L S h Q ↔ WP 214 0 21 L S h Q := wp_pl rfl rfl rfl
theorem s214_20 : WP 214 0 20 L S h Q ↔ WP 214 0 21 L (vI 0 :: S) h Q := wp_pl rfl rfl rfl
theorem s214_21 : WP 214 0 21 L S h Q ↔ WP 214 0 22 L (vI 1 :: S) h Q := wp_pl rfl rfl rfl
theorem s214_22 : WP 214 0 22 L (vI x1 :: vI x0 :: vA (some a) :: S) h Q ↔ ((hk h a).1 = 110 ∧ (zw S ≤ 8 ∧ WP 248 0 0 [vA (some a), vI x0, vI x1] [] h (zret 214 0 22 25 L S Q))) := wp_V1 (c := 110) rfl rfl (fun _ => rfl) rfl rfl (zcan_of rfl rfl) rfl rfl rfl
theorem s214_25 : WP 214 0 25 L (vI x :: S) h Q ↔ zif (x = 0) (WP 214 0 30 L S h Q) (WP 214 0 28 L S h Q) := wp_bE zc_eq rfl rfl rfl
theorem s214_28 : WP 214 0 28 L S h Q ↔ WP 214 0 29 L (vI 0 :: S) h Q := wp_pl rfl rfl rfl
theorem s214_29 : WP 214 0 29 L [vI x] h Q ↔ Q (.inl (some (vI x))) h := wp_iret0 rfl rfl
theorem s214_30 : WP 214 0 30 [vA r, a1] S h Q ↔ WP 214 0 31 [vA r, a1] (vA r :: S) h Q := wp_aload rfl rfl
theorem s214_31 : WP 214 0 31 [a0, vI x] S h Q ↔ WP 214 0 32 [a0, vI x] (vI x :: S) h Q := wp_iload rfl rfl
theorem s214_32 : WP 214 0 32 L S h Q ↔ WP 214 0 33 L (vI 1 :: S) h Q := wp_pl rfl rfl rfl
theorem s214_33 : WP 214 0 33 L (vI x1 :: vI x0 :: vA (some a) :: S) h Q ↔ ((hk h a).1 = 110 ∧ (zw S ≤ 8 ∧ WP 152 0 0 [vA (some a), vI x0, vI x1, vJ] [] h (zret 214 0 33 36 L S Q))) := wp_V1 (c := 110) rfl rfl (fun _ => rfl) rfl rfl (zcan_of rfl rfl) rfl rfl rfl
theorem s214_36 : WP 214 0 36 L [vI x] h Q ↔ Q (.inl (some (vI x))) h := wp_iret0 rfl rfl
/-! RepeatFreeModel.mapLine()V -/
theorem s215_0 : WP 215 0 0 [vA r, a1, a2] S h Q ↔ WP 215 0 1 [vA r, a1, a2] (vA r :: S) h Q := wp_aload rfl rfl
theorem s215_1 : WP 215 0 1 L (vA (some a) :: S) h Q ↔ (zhas 55 (hk h a) = true ∧ WP 215 0 4 L (hm h a 55 :: S) h Q) := wp_if rfl rfl rfl
theorem s215_4 : WP 215 0 4 L S h Q ↔ WP 215 0 5 L (vI 4 :: S) h Q := wp_pl rfl rfl rfl
theorem s215_5 : WP 215 0 5 L (vI x :: vA (some a) :: S) h Q ↔ (((hk h a).1 = 1 ∧ 0 ≤ x ∧ x < ((hk h a).2 : Int)) ∧ WP 215 0 6 L (hm h a x.toNat :: S) h Q) := wp_if rfl rfl rfl
theorem s215_6 : WP 215 0 6 [a0, a1, a2] (vI x :: S) h Q ↔ WP 215 0 7 [a0, vI x, a2] S h Q := wp_istore rfl rfl rfl
theorem s215_7 : WP 215 0 7 [a0, vI x, a2] S h Q ↔ WP 215 0 8 [a0, vI x, a2] (vI x :: S) h Q := wp_iload rfl rfl
theorem s215_8 : WP 215 0 8 L S h Q ↔ WP 215 0 9 L (vI 4 :: S) h Q := wp_pl rfl rfl rfl
theorem s215_9 : WP 215 0 9 L (vI y :: vI x :: S) h Q ↔ zif (x = y) (WP 215 0 12 L S h Q) (WP 215 0 17 L S h Q) := wp_bN zc_eq rfl rfl rfl
theorem s215_12 : WP 215 0 12 [vA r, a1, a2] S h Q ↔ WP 215 0 13 [vA r, a1, a2] (vA r :: S) h Q := wp_aload rfl rfl
theorem s215_13 : WP 215 0 13 L (vA (some a) :: S) h Q ↔ ((hk h a).1 = 110 ∧ (zw S ≤ 8 ∧ WP 161 0 0 [vA (some a)] [] h (zret 215 0 13 16 L S Q))) := wp_V1 (c := 110) rfl rfl (fun _ => rfl) rfl rfl (zcan_of rfl rfl) rfl rfl rfl
theorem s215_16 : WP 215 0 16 L [] h Q ↔ Q (.inl none) h := wp_ret rfl
theorem s215_17 : WP 215 0 17 [vA r, a1, a2] S h Q ↔ WP 215 0 18 [vA r, a1, a2] (vA r :: S) h Q := wp_aload rfl rfl
theorem s215_18 : WP 215 0 18 L S h Q ↔ WP 215 0 20 L (vA (some 14) :: S) h Q := wp_pl rfl rfl rfl
theorem s215_20 : WP 215 0 20 L (vA r0 :: vA (some a) :: S) h Q ↔ ((hk h a).1 = 110 ∧ (zw S ≤ 8 ∧ WP 138 0 0 [vA (some a), vA r0] [] h (zret 215 0 20 23 L S Q))) := wp_V1 (c := 110) rfl rfl (fun _ => rfl) rfl rfl (zcan_of rfl rfl) rfl rfl rfl
theorem s215_23 : WP 215 0 23 [vA r, a1, a2] S h Q ↔ WP 215 0 24 [vA r, a1, a2] (vA r :: S) h Q := wp_aload rfl rfl
theorem s215_24 : WP 215 0 24 [a0, vI x, a2] S h Q ↔ WP 215 0 25 [a0, vI x, a2] (vI x :: S) h Q := wp_iload rfl rfl
theorem s215_25 : WP 215 0 25 L (vI x0 :: vA (some a) :: S) h Q ↔ ((hk h a).1 = 110 ∧ (zw S ≤ 8 ∧ WP 170 0 0 [vA (some a), vI x0, vJ, vJ] [] h (zret 215 0 25 28 L S Q))) := wp_V1 (c := 110) rfl rfl (fun _ => rfl) rfl rfl (zcan_of rfl rfl) rfl rfl rfl
theorem s215_28 : WP 215 0 28 L S h Q ↔ WP 215 0 29 L (vI 0 :: S) h Q := wp_pl rfl rfl rfl
theorem s215_29 : WP 215 0 29 [a0, a1, a2] (vI x :: S) h Q ↔ WP 215 0 30 [a0, a1, vI x] S h Q := wp_istore rfl rfl rfl
theorem s215_30 : WP 215 0 30 [a0, a1, vI x] S h Q ↔ WP 215 0 31 [a0, a1, vI x] (vI x :: S) h Q := wp_iload rfl rfl
theorem s215_31 : WP 215 0 31 [vA r, a1, a2] S h Q ↔ WP 215 0 32 [vA r, a1, a2] (vA r :: S) h Q := wp_aload rfl rfl
theorem s215_32 : WP 215 0 32 L (vA (some a) :: S) h Q ↔ (zhas 55 (hk h a) = true ∧ WP 215 0 35 L (hm h a 55 :: S) h Q) := wp_if rfl rfl rfl
theorem s215_35 : WP 215 0 35 L S h Q ↔ WP 215 0 36 L (vI 0 :: S) h Q := wp_pl rfl rfl rfl
theorem s215_36 : WP 215 0 36 L (vI x :: vA (some a) :: S) h Q ↔ (((hk h a).1 = 1 ∧ 0 ≤ x ∧ x < ((hk h a).2 : Int)) ∧ WP 215 0 37 L (hm h a x.toNat :: S) h Q) := wp_if rfl rfl rfl
theorem s215_37 : WP 215 0 37 L (vI y :: vI x :: S) h Q ↔ zif (x < y) (WP 215 0 40 L S h Q) (WP 215 0 132 L S h Q) := wp_bN zc_lt rfl rfl rfl
theorem s215_40 : WP 215 0 40 [vA r, a1, a2] S h Q ↔ WP 215 0 41 [vA r, a1, a2] (vA r :: S) h Q := wp_aload rfl rfl
theorem s215_41 : WP 215 0 41 L (vA (some a) :: S) h Q ↔ ((hk h a).1 = 110 ∧ (zw S ≤ 8 ∧ WP 177 0 0 [vA (some a)] [] h (zret 215 0 41 44 L S Q))) := wp_V1 (c := 110) rfl rfl (fun _ => rfl) rfl rfl (zcan_of rfl rfl) rfl rfl rfl
theorem s215_44 : WP 215 0 44 L (vI x :: S) h Q ↔ zif (x = 0) (WP 215 0 47 L S h Q) (WP 215 0 132 L S h Q) := wp_bN zc_eq rfl rfl rfl
theorem s215_47 : WP 215 0 47 [vA r, a1, a2] S h Q ↔ WP 215 0 48 [vA r, a1, a2] (vA r :: S) h Q := wp_aload rfl rfl
theorem s215_48 : WP 215 0 48 L (vA (some a) :: S) h Q ↔ ((hk h a).1 = 110 ∧ (zw S ≤ 8 ∧ WP 254 0 0 [vA (some a), vJ] [] h (zret 215 0 48 51 L S Q))) := wp_V1 (c := 110) rfl rfl (fun _ => rfl) rfl rfl (zcan_of rfl rfl) rfl rfl rfl
theorem s215_51 : WP 215 0 51 L S h Q ↔ WP 215 0 52 L (vI 1 :: S) h Q := wp_pl rfl rfl rfl
theorem s215_52 : WP 215 0 52 L (vI y :: vI x :: S) h Q ↔ zif (x = y) (WP 215 0 55 L S h Q) (WP 215 0 71 L S h Q) := wp_bN zc_eq rfl rfl rfl
theorem s215_55 : WP 215 0 55 [vA r, a1, a2] S h Q ↔ WP 215 0 56 [vA r, a1, a2] (vA r :: S) h Q := wp_aload rfl rfl
theorem s215_56 : WP 215 0 56 L (vA (some a) :: S) h Q ↔ (zhas 46 (hk h a) = true ∧ WP 215 0 59 L (hm h a 46 :: S) h Q) := wp_if rfl rfl rfl
theorem s215_59 : WP 215 0 59 [vA r, a1, a2] S h Q ↔ WP 215 0 60 [vA r, a1, a2] (vA r :: S) h Q := wp_aload rfl rfl
theorem s215_60 : WP 215 0 60 L (vA (some a) :: S) h Q ↔ (zhas 49 (hk h a) = true ∧ WP 215 0 63 L (hm h a 49 :: S) h Q) := wp_if rfl rfl rfl
theorem s215_63 : WP 215 0 63 L (vI x :: vA (some a) :: S) h Q ↔ ((((hk h a).1 = 2 ∨ (hk h a).1 = 3) ∧ 0 ≤ x ∧ x < ((hk h a).2 : Int)) ∧ WP 215 0 64 L (hm h a x.toNat :: S) h Q) := wp_if rfl rfl rfl
theorem s215_64 : WP 215 0 64 L S h Q ↔ WP 215 0 66 L (vI 97 :: S) h Q := wp_pl rfl rfl rfl
theorem s215_66 : WP 215 0 66 [a0, a1, vI x] S h Q ↔ WP 215 0 67 [a0, a1, vI x] (vI x :: S) h Q := wp_iload rfl rfl
theorem s215_67 : WP 215 0 67 L (vI y :: vI x :: S) h Q ↔ WP 215 0 68 L (vI (wr (x + y)) :: S) h Q := wp_pl rfl rfl rfl
theorem s215_68 : WP 215 0 68 L (vI y :: vI x :: S) h Q ↔ zif (x = y) (WP 215 0 76 L S h Q) (WP 215 0 71 L S h Q) := wp_bE zc_eq rfl rfl rfl
theorem s215_71 : WP 215 0 71 [vA r, a1, a2] S h Q ↔ WP 215 0 72 [vA r, a1, a2] (vA r :: S) h Q := wp_aload rfl rfl
theorem s215_72 : WP 215 0 72 L (vA (some a) :: S) h Q ↔ ((hk h a).1 = 110 ∧ (zw S ≤ 8 ∧ WP 161 0 0 [vA (some a)] [] h (zret 215 0 72 75 L S Q))) := wp_V1 (c := 110) rfl rfl (fun _ => rfl) rfl rfl (zcan_of rfl rfl) rfl rfl rfl
theorem s215_75 : WP 215 0 75 L [] h Q ↔ Q (.inl none) h := wp_ret rfl
theorem s215_76 : WP 215 0 76 [vA r, a1, a2] S h Q ↔ WP 215 0 77 [vA r, a1, a2] (vA r :: S) h Q := wp_aload rfl rfl
theorem s215_77 : WP 215 0 77 L (vA r :: S) h Q ↔ WP 215 0 78 L (vA r :: vA r :: S) h Q := wp_pl rfl rfl rfl
theorem s215_77i : WP 215 0 77 L (vI x :: S) h Q ↔ WP 215 0 78 L (vI x :: vI x :: S) h Q := wp_pl rfl rfl rfl
theorem s215_78 : WP 215 0 78 L (vA (some a) :: S) h Q ↔ (zhas 49 (hk h a) = true ∧ WP 215 0 81 L (hm h a 49 :: S) h Q) := wp_if rfl rfl rfl
theorem s215_81 : WP 215 0 81 L S h Q ↔ WP 215 0 82 L (vI 1 :: S) h Q := wp_pl rfl rfl rfl
theorem s215_82 : WP 215 0 82 L (vI y :: vI x :: S) h Q ↔ WP 215 0 83 L (vI (wr (x + y)) :: S) h Q := wp_pl rfl rfl rfl
theorem s215_83 : WP 215 0 83 L (vI x :: vA (some a) :: S) h Q ↔ ((zNC ≤ a ∧ zhas 49 (hk h a) = true) ∧ WP 215 0 86 L S (hput h a 49 (vI x)) Q) := wp_put0 rfl rfl
theorem s215_86 : WP 215 0 86 [vA r, a1, a2] S h Q ↔ WP 215 0 87 [vA r, a1, a2] (vA r :: S) h Q := wp_aload rfl rfl
theorem s215_87 : WP 215 0 87 L (vA (some a) :: S) h Q ↔ (zhas 55 (hk h a) = true ∧ WP 215 0 90 L (hm h a 55 :: S) h Q) := wp_if rfl rfl rfl
theorem s215_90 : WP 215 0 90 L S h Q ↔ WP 215 0 92 L (vI 54 :: S) h Q := wp_pl rfl rfl rfl
theorem s215_92 : WP 215 0 92 L S h Q ↔ WP 215 0 93 L (vI 4 :: S) h Q := wp_pl rfl rfl rfl
theorem s215_93 : WP 215 0 93 [a0, vI x, a2] S h Q ↔ WP 215 0 94 [a0, vI x, a2] (vI x :: S) h Q := wp_iload rfl rfl
theorem s215_94 : WP 215 0 94 L (vI y :: vI x :: S) h Q ↔ WP 215 0 95 L (vI (wr (x * y)) :: S) h Q := wp_pl rfl rfl rfl
theorem s215_95 : WP 215 0 95 L (vI y :: vI x :: S) h Q ↔ WP 215 0 96 L (vI (wr (x + y)) :: S) h Q := wp_pl rfl rfl rfl
theorem s215_96 : WP 215 0 96 [a0, a1, vI x] S h Q ↔ WP 215 0 97 [a0, a1, vI x] (vI x :: S) h Q := wp_iload rfl rfl
theorem s215_97 : WP 215 0 97 L (vI y :: vI x :: S) h Q ↔ WP 215 0 98 L (vI (wr (x + y)) :: S) h Q := wp_pl rfl rfl rfl
theorem s215_98 : WP 215 0 98 [vA r, a1, a2] S h Q ↔ WP 215 0 99 [vA r, a1, a2] (vA r :: S) h Q := wp_aload rfl rfl
theorem s215_99 : WP 215 0 99 L S h Q ↔ WP 215 0 101 L (vI 97 :: S) h Q := wp_pl rfl rfl rfl
theorem s215_101 : WP 215 0 101 [vA r, a1, a2] S h Q ↔ WP 215 0 102 [vA r, a1, a2] (vA r :: S) h Q := wp_aload rfl rfl
theorem s215_102 : WP 215 0 102 L (vA (some a) :: S) h Q ↔ (zhas 55 (hk h a) = true ∧ WP 215 0 105 L (hm h a 55 :: S) h Q) := wp_if rfl rfl rfl
theorem s215_105 : WP 215 0 105 L S h Q ↔ WP 215 0 106 L (vI 0 :: S) h Q := wp_pl rfl rfl rfl
theorem s215_106 : WP 215 0 106 L (vI x :: vA (some a) :: S) h Q ↔ (((hk h a).1 = 1 ∧ 0 ≤ x ∧ x < ((hk h a).2 : Int)) ∧ WP 215 0 107 L (hm h a x.toNat :: S) h Q) := wp_if rfl rfl rfl
theorem s215_107 : WP 215 0 107 [vA r, a1, a2] S h Q ↔ WP 215 0 108 [vA r, a1, a2] (vA r :: S) h Q := wp_aload rfl rfl
theorem s215_108 : WP 215 0 108 L (vA (some a) :: S) h Q ↔ (zhas 55 (hk h a) = true ∧ WP 215 0 111 L (hm h a 55 :: S) h Q) := wp_if rfl rfl rfl
theorem s215_111 : WP 215 0 111 L S h Q ↔ WP 215 0 113 L (vI 70 :: S) h Q := wp_pl rfl rfl rfl
theorem s215_113 : WP 215 0 113 L S h Q ↔ WP 215 0 115 L (vI 6 :: S) h Q := wp_pl rfl rfl rfl
theorem s215_115 : WP 215 0 115 L S h Q ↔ WP 215 0 116 L (vI 4 :: S) h Q := wp_pl rfl rfl rfl
theorem s215_116 : WP 215 0 116 [a0, vI x, a2] S h Q ↔ WP 215 0 117 [a0, vI x, a2] (vI x :: S) h Q := wp_iload rfl rfl
theorem s215_117 : WP 215 0 117 L (vI y :: vI x :: S) h Q ↔ WP 215 0 118 L (vI (wr (x * y)) :: S) h Q := wp_pl rfl rfl rfl
theorem s215_118 : WP 215 0 118 [a0, a1, vI x] S h Q ↔ WP 215 0 119 [a0, a1, vI x] (vI x :: S) h Q := wp_iload rfl rfl
theorem s215_119 : WP 215 0 119 L (vI y :: vI x :: S) h Q ↔ WP 215 0 120 L (vI (wr (x + y)) :: S) h Q := wp_pl rfl rfl rfl
theorem s215_120 : WP 215 0 120 L (vI y :: vI x :: S) h Q ↔ WP 215 0 121 L (vI (wr (x * y)) :: S) h Q := wp_pl rfl rfl rfl
theorem s215_121 : WP 215 0 121 L (vI y :: vI x :: S) h Q ↔ WP 215 0 122 L (vI (wr (x + y)) :: S) h Q := wp_pl rfl rfl rfl
theorem s215_122 : WP 215 0 122 L (vI x3 :: vA r2 :: vI x1 :: vI x0 :: vA (some a) :: S) h Q ↔ ((hk h a).1 = 110 ∧ (zw S ≤ 8 ∧ WP 203 0 0 [vA (some a), vI x0, vI x1, vA r2, vI x3, vJ, vJ, vJ] [] h (zret 215 0 122 125 L S Q))) := wp_V1 (c := 110) rfl rfl (fun _ => rfl) rfl rfl (zcan_of rfl rfl) rfl rfl rfl
theorem s215_125 : WP 215 0 125 L (vI y :: vI x :: vA (some a) :: S) h Q ↔ (((hk h a).1 = 1 ∧ (0 ≤ x ∧ x < ((hk h a).2 : Int)) ∧ zNC ≤ a) ∧ WP 215 0 126 L S (hput h a x.toNat (vI y)) Q) := wp_if rfl rfl rfl
theorem s215_126 : WP 215 0 126 [a0, a1, vI x] S h Q ↔ WP 215 0 129 [a0, a1, vI (wr (x + 1))] S h Q := wp_iinc rfl rfl rfl
theorem s215_129 : WP 215 0 129 L S h Q ↔ WP 215 0 30 L S h Q := wp_pl rfl rfl rfl
theorem s215_132 : WP 215 0 132 [vA r, a1, a2] S h Q ↔ WP 215 0 133 [vA r, a1, a2] (vA r :: S) h Q := wp_aload rfl rfl
theorem s215_133 : WP 215 0 133 L (vA (some a) :: S) h Q ↔ (zhas 55 (hk h a) = true ∧ WP 215 0 136 L (hm h a 55 :: S) h Q) := wp_if rfl rfl rfl
theorem s215_136 : WP 215 0 136 L S h Q ↔ WP 215 0 137 L (vI 4 :: S) h Q := wp_pl rfl rfl rfl
theorem s215_137 : WP 215 0 137 L (vI y :: vA r :: S) h Q ↔ WP 215 0 138 L (vI y :: vA r :: vI y :: vA r :: S) h Q := wp_pl rfl rfl rfl
theorem s215_137l : WP 215 0 137 L (vL x :: S) h Q ↔ WP 215 0 138 L (vL x :: vL x :: S) h Q := wp_pl rfl rfl rfl
theorem s215_138 : WP 215 0 138 L (vI x :: vA (some a) :: S) h Q ↔ (((hk h a).1 = 1 ∧ 0 ≤ x ∧ x < ((hk h a).2 : Int)) ∧ WP 215 0 139 L (hm h a x.toNat :: S) h Q) := wp_if rfl rfl rfl
theorem s215_139 : WP 215 0 139 L S h Q ↔ WP 215 0 140 L (vI 1 :: S) h Q := wp_pl rfl rfl rfl
theorem s215_140 : WP 215 0 140 L (vI y :: vI x :: S) h Q ↔ WP 215 0 141 L (vI (wr (x + y)) :: S) h Q := wp_pl rfl rfl rfl
theorem s215_141 : WP 215 0 141 L (vI y :: vI x :: vA (some a) :: S) h Q ↔ (((hk h a).1 = 1 ∧ (0 ≤ x ∧ x < ((hk h a).2 : Int)) ∧ zNC ≤ a) ∧ WP 215 0 142 L S (hput h a x.toNat (vI y)) Q) := wp_if rfl rfl rfl
theorem s215_142 : WP 215 0 142 L [] h Q ↔ Q (.inl none) h := wp_ret rfl
/-! RepeatFreeModel.meets(II)Z -/
theorem s216_0 : WP 216 0 0 [a0, a1, vI x] S h Q ↔ WP 216 0 1 [a0, a1, vI x] (vI x :: S) h Q := wp_iload rfl rfl
theorem s216_1 : WP 216 0 1 L (vI x :: S) h Q ↔ WP 216 0 (if 4 < x then 144 else zsw x 0 144 [36, 43, 55, 79, 101]) L S h Q := wp_pl rfl rfl rfl
theorem s216_36 : WP 216 0 36 [vA r, a1, a2] S h Q ↔ WP 216 0 37 [vA r, a1, a2] (vA r :: S) h Q := wp_aload rfl rfl
theorem s216_37 : WP 216 0 37 L S h Q ↔ WP 216 0 38 L (vI 1 :: S) h Q := wp_pl rfl rfl rfl
theorem s216_38 : WP 216 0 38 L (vI x :: vA (some a) :: S) h Q ↔ ((zNC ≤ a ∧ zhas 70 (hk h a) = true ∧ (x = 0 ∨ x = 1)) ∧ WP 216 0 41 L S (hput h a 70 (vI x)) Q) := wp_put1 rfl rfl
theorem s216_41 : WP 216 0 41 L S h Q ↔ WP 216 0 42 L (vI 0 :: S) h Q := wp_pl rfl rfl rfl
theorem s216_42 : WP 216 0 42 L [vI x] h Q ↔ ((x = 0 ∨ x = 1) ∧ Q (.inl (some (vI x))) h) := wp_iret rfl rfl
theorem s216_43 : WP 216 0 43 [vA r, a1, a2] S h Q ↔ WP 216 0 44 [vA r, a1, a2] (vA r :: S) h Q := wp_aload rfl rfl
theorem s216_44 : WP 216 0 44 L (vA r :: S) h Q ↔ WP 216 0 45 L (vA r :: vA r :: S) h Q := wp_pl rfl rfl rfl
theorem s216_44i : WP 216 0 44 L (vI x :: S) h Q ↔ WP 216 0 45 L (vI x :: vI x :: S) h Q := wp_pl rfl rfl rfl
theorem s216_45 : WP 216 0 45 L (vA (some a) :: S) h Q ↔ (zhas 66 (hk h a) = true ∧ WP 216 0 48 L (hm h a 66 :: S) h Q) := wp_if rfl rfl rfl
theorem s216_48 : WP 216 0 48 L S h Q ↔ WP 216 0 49 L (vI 1 :: S) h Q := wp_pl rfl rfl rfl
theorem s216_49 : WP 216 0 49 L (vI y :: vI x :: S) h Q ↔ WP 216 0 50 L (vI (wr (x + y)) :: S) h Q := wp_pl rfl rfl rfl
theorem s216_50 : WP 216 0 50 L (vI x :: vA (some a) :: S) h Q ↔ ((zNC ≤ a ∧ zhas 66 (hk h a) = true) ∧ WP 216 0 53 L S (hput h a 66 (vI x)) Q) := wp_put0 rfl rfl
theorem s216_53 : WP 216 0 53 L S h Q ↔ WP 216 0 54 L (vI 1 :: S) h Q := wp_pl rfl rfl rfl
theorem s216_54 : WP 216 0 54 L [vI x] h Q ↔ ((x = 0 ∨ x = 1) ∧ Q (.inl (some (vI x))) h) := wp_iret rfl rfl
theorem s216_55 : WP 216 0 55 [vA r, a1, a2] S h Q ↔ WP 216 0 56 [vA r, a1, a2] (vA r :: S) h Q := wp_aload rfl rfl
theorem s216_56 : WP 216 0 56 L (vA r :: S) h Q ↔ WP 216 0 57 L (vA r :: vA r :: S) h Q := wp_pl rfl rfl rfl
theorem s216_56i : WP 216 0 56 L (vI x :: S) h Q ↔ WP 216 0 57 L (vI x :: vI x :: S) h Q := wp_pl rfl rfl rfl
theorem s216_57 : WP 216 0 57 L (vA (some a) :: S) h Q ↔ (zhas 66 (hk h a) = true ∧ WP 216 0 60 L (hm h a 66 :: S) h Q) := wp_if rfl rfl rfl
theorem s216_60 : WP 216 0 60 [vA r, a1, a2] S h Q ↔ WP 216 0 61 [vA r, a1, a2] (vA r :: S) h Q := wp_aload rfl rfl
theorem s216_61 : WP 216 0 61 [a0, vI x, a2] S h Q ↔ WP 216 0 62 [a0, vI x, a2] (vI x :: S) h Q := wp_iload rfl rfl
theorem s216_62 : WP 216 0 62 L (vI x0 :: vA (some a) :: S) h Q ↔ ((hk h a).1 = 110 ∧ (zw S ≤ 8 ∧ WP 192 0 0 [vA (some a), vI x0, vJ] [] h (zret 216 0 62 65 L S Q))) := wp_V1 (c := 110) rfl rfl (fun _ => rfl) rfl rfl (zcan_of rfl rfl) rfl rfl rfl
theorem s216_65 : WP 216 0 65 L (vI x :: S) h Q ↔ zif (x = 0) (WP 216 0 72 L S h Q) (WP 216 0 68 L S h Q) := wp_bE zc_eq rfl rfl rfl
theorem s216_68 : WP 216 0 68 L S h Q ↔ WP 216 0 69 L (vI 1 :: S) h Q := wp_pl rfl rfl rfl
theorem s216_69 : WP 216 0 69 L S h Q ↔ WP 216 0 73 L S h Q := wp_pl rfl rfl rfl
theorem s216_72 : WP 216 0 72 L S h Q ↔ WP 216 0 73 L (vI 0 :: S) h Q := wp_pl rfl rfl rfl
theorem s216_73 : WP 216 0 73 L (vI y :: vI x :: S) h Q ↔ WP 216 0 74 L (vI (wr (x + y)) :: S) h Q := wp_pl rfl rfl rfl
theorem s216_74 : WP 216 0 74 L (vI x :: vA (some a) :: S) h Q ↔ ((zNC ≤ a ∧ zhas 66 (hk h a) = true) ∧ WP 216 0 77 L S (hput h a 66 (vI x)) Q) := wp_put0 rfl rfl
theorem s216_77 : WP 216 0 77 L S h Q ↔ WP 216 0 78 L (vI 1 :: S) h Q := wp_pl rfl rfl rfl
theorem s216_78 : WP 216 0 78 L [vI x] h Q ↔ ((x = 0 ∨ x = 1) ∧ Q (.inl (some (vI x))) h) := wp_iret rfl rfl
theorem s216_79 : WP 216 0 79 [vA r, a1, a2] S h Q ↔ WP 216 0 80 [vA r, a1, a2] (vA r :: S) h Q := wp_aload rfl rfl
theorem s216_80 : WP 216 0 80 [a0, vI x, a2] S h Q ↔ WP 216 0 81 [a0, vI x, a2] (vI x :: S) h Q := wp_iload rfl rfl
theorem s216_81 : WP 216 0 81 L (vI x0 :: vA (some a) :: S) h Q ↔ ((hk h a).1 = 110 ∧ (zw S ≤ 8 ∧ WP 185 0 0 [vA (some a), vI x0, vJ] [] h (zret 216 0 81 84 L S Q))) := wp_V1 (c := 110) rfl rfl (fun _ => rfl) rfl rfl (zcan_of rfl rfl) rfl rfl rfl
theorem s216_84 : WP 216 0 84 L (vI x :: S) h Q ↔ zif (x = 0) (WP 216 0 87 L S h Q) (WP 216 0 89 L S h Q) := wp_bN zc_eq rfl rfl rfl
theorem s216_87 : WP 216 0 87 L S h Q ↔ WP 216 0 88 L (vI 0 :: S) h Q := wp_pl rfl rfl rfl
theorem s216_88 : WP 216 0 88 L [vI x] h Q ↔ ((x = 0 ∨ x = 1) ∧ Q (.inl (some (vI x))) h) := wp_iret rfl rfl
theorem s216_89 : WP 216 0 89 [vA r, a1, a2] S h Q ↔ WP 216 0 90 [vA r, a1, a2] (vA r :: S) h Q := wp_aload rfl rfl
theorem s216_90 : WP 216 0 90 L (vA r :: S) h Q ↔ WP 216 0 91 L (vA r :: vA r :: S) h Q := wp_pl rfl rfl rfl
theorem s216_90i : WP 216 0 90 L (vI x :: S) h Q ↔ WP 216 0 91 L (vI x :: vI x :: S) h Q := wp_pl rfl rfl rfl
theorem s216_91 : WP 216 0 91 L (vA (some a) :: S) h Q ↔ (zhas 66 (hk h a) = true ∧ WP 216 0 94 L (hm h a 66 :: S) h Q) := wp_if rfl rfl rfl
theorem s216_94 : WP 216 0 94 L S h Q ↔ WP 216 0 95 L (vI 1 :: S) h Q := wp_pl rfl rfl rfl
theorem s216_95 : WP 216 0 95 L (vI y :: vI x :: S) h Q ↔ WP 216 0 96 L (vI (wr (x + y)) :: S) h Q := wp_pl rfl rfl rfl
theorem s216_96 : WP 216 0 96 L (vI x :: vA (some a) :: S) h Q ↔ ((zNC ≤ a ∧ zhas 66 (hk h a) = true) ∧ WP 216 0 99 L S (hput h a 66 (vI x)) Q) := wp_put0 rfl rfl
theorem s216_99 : WP 216 0 99 L S h Q ↔ WP 216 0 100 L (vI 1 :: S) h Q := wp_pl rfl rfl rfl
theorem s216_100 : WP 216 0 100 L [vI x] h Q ↔ ((x = 0 ∨ x = 1) ∧ Q (.inl (some (vI x))) h) := wp_iret rfl rfl
theorem s216_101 : WP 216 0 101 [vA r, a1, a2] S h Q ↔ WP 216 0 102 [vA r, a1, a2] (vA r :: S) h Q := wp_aload rfl rfl
theorem s216_102 : WP 216 0 102 [vA r, a1, a2] S h Q ↔ WP 216 0 103 [vA r, a1, a2] (vA r :: S) h Q := wp_aload rfl rfl
theorem s216_103 : WP 216 0 103 L (vA (some a) :: S) h Q ↔ (zhas 66 (hk h a) = true ∧ WP 216 0 106 L (hm h a 66 :: S) h Q) := wp_if rfl rfl rfl
theorem s216_106 : WP 216 0 106 [vA r, a1, a2] S h Q ↔ WP 216 0 107 [vA r, a1, a2] (vA r :: S) h Q := wp_aload rfl rfl
theorem s216_107 : WP 216 0 107 L (vA (some a) :: S) h Q ↔ (zhas 68 (hk h a) = true ∧ WP 216 0 110 L (hm h a 68 :: S) h Q) := wp_if rfl rfl rfl
theorem s216_110 : WP 216 0 110 L (vI y :: vI x :: S) h Q ↔ zif (x = y) (WP 216 0 113 L S h Q) (WP 216 0 117 L S h Q) := wp_bN zc_eq rfl rfl rfl
theorem s216_113 : WP 216 0 113 L S h Q ↔ WP 216 0 114 L (vI 1 :: S) h Q := wp_pl rfl rfl rfl
theorem s216_114 : WP 216 0 114 L S h Q ↔ WP 216 0 118 L S h Q := wp_pl rfl rfl rfl
theorem s216_117 : WP 216 0 117 L S h Q ↔ WP 216 0 118 L (vI 0 :: S) h Q := wp_pl rfl rfl rfl
theorem s216_118 : WP 216 0 118 L (vI x :: vA (some a) :: S) h Q ↔ ((zNC ≤ a ∧ zhas 70 (hk h a) = true ∧ (x = 0 ∨ x = 1)) ∧ WP 216 0 121 L S (hput h a 70 (vI x)) Q) := wp_put1 rfl rfl
theorem s216_121 : WP 216 0 121 [vA r, a1, a2] S h Q ↔ WP 216 0 122 [vA r, a1, a2] (vA r :: S) h Q := wp_aload rfl rfl
theorem s216_122 : WP 216 0 122 L (vA r :: S) h Q ↔ WP 216 0 123 L (vA r :: vA r :: S) h Q := wp_pl rfl rfl rfl
theorem s216_122i : WP 216 0 122 L (vI x :: S) h Q ↔ WP 216 0 123 L (vI x :: vI x :: S) h Q := wp_pl rfl rfl rfl
theorem s216_123 : WP 216 0 123 L (vA (some a) :: S) h Q ↔ (zhas 66 (hk h a) = true ∧ WP 216 0 126 L (hm h a 66 :: S) h Q) := wp_if rfl rfl rfl
theorem s216_126 : WP 216 0 126 L S h Q ↔ WP 216 0 127 L (vI 1 :: S) h Q := wp_pl rfl rfl rfl
theorem s216_127 : WP 216 0 127 L (vI y :: vI x :: S) h Q ↔ WP 216 0 128 L (vI (wr (x + y)) :: S) h Q := wp_pl rfl rfl rfl
theorem s216_128 : WP 216 0 128 L (vI x :: vA (some a) :: S) h Q ↔ ((zNC ≤ a ∧ zhas 66 (hk h a) = true) ∧ WP 216 0 131 L S (hput h a 66 (vI x)) Q) := wp_put0 rfl rfl
theorem s216_131 : WP 216 0 131 [vA r, a1, a2] S h Q ↔ WP 216 0 132 [vA r, a1, a2] (vA r :: S) h Q := wp_aload rfl rfl
theorem s216_132 : WP 216 0 132 L (vA (some a) :: S) h Q ↔ (zhas 70 (hk h a) = true ∧ WP 216 0 135 L (hm h a 70 :: S) h Q) := wp_if rfl rfl rfl
theorem s216_135 : WP 216 0 135 L (vI x :: S) h Q ↔ zif (x = 0) (WP 216 0 138 L S h Q) (WP 216 0 142 L S h Q) := wp_bN zc_eq rfl rfl rfl
theorem s216_138 : WP 216 0 138 L S h Q ↔ WP 216 0 139 L (vI 1 :: S) h Q := wp_pl rfl rfl rfl
theorem s216_139 : WP 216 0 139 L S h Q ↔ WP 216 0 143 L S h Q := wp_pl rfl rfl rfl
theorem s216_142 : WP 216 0 142 L S h Q ↔ WP 216 0 143 L (vI 0 :: S) h Q := wp_pl rfl rfl rfl
theorem s216_143 : WP 216 0 143 L [vI x] h Q ↔ ((x = 0 ∨ x = 1) ∧ Q (.inl (some (vI x))) h) := wp_iret rfl rfl
theorem s216_144 : WP 216 0 144 [vA r, a1, a2] S h Q ↔ WP 216 0 145 [vA r, a1, a2] (vA r :: S) h Q := wp_aload rfl rfl
theorem s216_145 : WP 216 0 145 [vA r, a1, a2] S h Q ↔ WP 216 0 146 [vA r, a1, a2] (vA r :: S) h Q := wp_aload rfl rfl
theorem s216_146 : WP 216 0 146 [a0, vI x, a2] S h Q ↔ WP 216 0 147 [a0, vI x, a2] (vI x :: S) h Q := wp_iload rfl rfl
theorem s216_147 : WP 216 0 147 L (vI x0 :: vA (some a) :: S) h Q ↔ ((hk h a).1 = 110 ∧ (zw S ≤ 8 ∧ WP 153 0 0 [vA (some a), vI x0, vJ] [] h (zret 216 0 147 150 L S Q))) := wp_V1 (c := 110) rfl rfl (fun _ => rfl) rfl rfl (zcan_of rfl rfl) rfl rfl rfl
theorem s216_150 : WP 216 0 150 L (vI x :: vA (some a) :: S) h Q ↔ ((zNC ≤ a ∧ zhas 70 (hk h a) = true ∧ (x = 0 ∨ x = 1)) ∧ WP 216 0 153 L S (hput h a 70 (vI x)) Q) := wp_put1 rfl rfl
theorem s216_153 : WP 216 0 153 [vA r, a1, a2] S h Q ↔ WP 216 0 154 [vA r, a1, a2] (vA r :: S) h Q := wp_aload rfl rfl
theorem s216_154 : WP 216 0 154 L (vA (some a) :: S) h Q ↔ (zhas 70 (hk h a) = true ∧ WP 216 0 157 L (hm h a 70 :: S) h Q) := wp_if rfl rfl rfl
theorem s216_157 : WP 216 0 157 L (vI x :: S) h Q ↔ zif (x = 0) (WP 216 0 160 L S h Q) (WP 216 0 164 L S h Q) := wp_bN zc_eq rfl rfl rfl
theorem s216_160 : WP 216 0 160 L S h Q ↔ WP 216 0 161 L (vI 1 :: S) h Q := wp_pl rfl rfl rfl
theorem s216_161 : WP 216 0 161 L S h Q ↔ WP 216 0 165 L S h Q := wp_pl rfl rfl rfl
theorem s216_164 : WP 216 0 164 L S h Q ↔ WP 216 0 165 L (vI 0 :: S) h Q := wp_pl rfl rfl rfl
theorem s216_165 : WP 216 0 165 L [vI x] h Q ↔ ((x = 0 ∨ x = 1) ∧ Q (.inl (some (vI x))) h) := wp_iret rfl rfl
/-! RepeatFreeModel.met(II)I -/
theorem s217_0 : WP 217 0 0 [vA r, a1, a2, a3, a4] S h Q ↔ WP 217 0 1 [vA r, a1, a2, a3, a4] (vA r :: S) h Q := wp_aload rfl rfl
theorem s217_1 : WP 217 0 1 L S h Q ↔ WP 217 0 2 L (vI 0 :: S) h Q := wp_pl rfl rfl rfl
theorem s217_2 : WP 217 0 2 L (vI x :: vA (some a) :: S) h Q ↔ ((zNC ≤ a ∧ zhas 45 (hk h a) = true) ∧ WP 217 0 5 L S (hput h a 45 (vI x)) Q) := wp_put0 rfl rfl
theorem s217_5 : WP 217 0 5 [vA r, a1, a2, a3, a4] S h Q ↔ WP 217 0 6 [vA r, a1, a2, a3, a4] (vA r :: S) h Q := wp_aload rfl rfl
theorem s217_6 : WP 217 0 6 [a0, vI x, a2, a3, a4] S h Q ↔ WP 217 0 7 [a0, vI x, a2, a3, a4] (vI x :: S) h Q := wp_iload rfl rfl
theorem s217_7 : WP 217 0 7 L (vI x0 :: vA (some a) :: S) h Q ↔ ((hk h a).1 = 110 ∧ (zw S ≤ 8 ∧ WP 224 0 0 [vA (some a), vI x0] [] h (zret 217 0 7 10 L S Q))) := wp_V1 (c := 110) rfl rfl (fun _ => rfl) rfl rfl (zcan_of rfl rfl) rfl rfl rfl
theorem s217_10 : WP 217 0 10 L (vI x :: S) h Q ↔ zif (x = 0) (WP 217 0 13 L S h Q) (WP 217 0 35 L S h Q) := wp_bN zc_eq rfl rfl rfl
theorem s217_13 : WP 217 0 13 [vA r, a1, a2, a3, a4] S h Q ↔ WP 217 0 14 [vA r, a1, a2, a3, a4] (vA r :: S) h Q := wp_aload rfl rfl
theorem s217_14 : WP 217 0 14 [a0, a1, vI x, a3, a4] S h Q ↔ WP 217 0 15 [a0, a1, vI x, a3, a4] (vI x :: S) h Q := wp_iload rfl rfl
theorem s217_15 : WP 217 0 15 L S h Q ↔ WP 217 0 16 L (vI 0 :: S) h Q := wp_pl rfl rfl rfl
theorem s217_16 : WP 217 0 16 L S h Q ↔ WP 217 0 17 L (vI 3 :: S) h Q := wp_pl rfl rfl rfl
theorem s217_17 : WP 217 0 17 L (vI x2 :: vI x1 :: vI x0 :: S) h Q ↔ (zw S ≤ 8 ∧ WP 183 0 0 [vI x0, vI x1, vI x2] [] h (zret 217 0 17 20 L S Q)) := wp_S rfl rfl (zcan_of rfl rfl) rfl rfl rfl
theorem s217_20 : WP 217 0 20 L (vI x :: S) h Q ↔ zif (x = 0) (WP 217 0 23 L S h Q) (WP 217 0 27 L S h Q) := wp_bN zc_eq rfl rfl rfl
theorem s217_23 : WP 217 0 23 L S h Q ↔ WP 217 0 24 L (vI 1 :: S) h Q := wp_pl rfl rfl rfl
theorem s217_24 : WP 217 0 24 L S h Q ↔ WP 217 0 28 L S h Q := wp_pl rfl rfl rfl
theorem s217_27 : WP 217 0 27 L S h Q ↔ WP 217 0 28 L (vI 0 :: S) h Q := wp_pl rfl rfl rfl
theorem s217_28 : WP 217 0 28 L S h Q ↔ WP 217 0 29 L (vI 2 :: S) h Q := wp_pl rfl rfl rfl
theorem s217_29 : WP 217 0 29 L (vI x1 :: vI x0 :: vA (some a) :: S) h Q ↔ ((hk h a).1 = 110 ∧ (zw S ≤ 8 ∧ WP 248 0 0 [vA (some a), vI x0, vI x1] [] h (zret 217 0 29 32 L S Q))) := wp_V1 (c := 110) rfl rfl (fun _ => rfl) rfl rfl (zcan_of rfl rfl) rfl rfl rfl
theorem s217_32 : WP 217 0 32 L (vI x :: S) h Q ↔ zif (x = 0) (WP 217 0 37 L S h Q) (WP 217 0 35 L S h Q) := wp_bE zc_eq rfl rfl rfl
theorem s217_35 : WP 217 0 35 L S h Q ↔ WP 217 0 36 L (vI 0 :: S) h Q := wp_pl rfl rfl rfl
theorem s217_36 : WP 217 0 36 L [vI x] h Q ↔ Q (.inl (some (vI x))) h := wp_iret0 rfl rfl
theorem s217_37 : WP 217 0 37 L S h Q ↔ WP 217 0 38 L (vI 0 :: S) h Q := wp_pl rfl rfl rfl
theorem s217_38 : WP 217 0 38 [a0, a1, a2, a3, a4] (vI x :: S) h Q ↔ WP 217 0 39 [a0, a1, a2, vI x, a4] S h Q := wp_istore rfl rfl rfl
theorem s217_39 : WP 217 0 39 [a0, a1, a2, vI x, a4] S h Q ↔ WP 217 0 40 [a0, a1, a2, vI x, a4] (vI x :: S) h Q := wp_iload rfl rfl
theorem s217_40 : WP 217 0 40 [vA r, a1, a2, a3, a4] S h Q ↔ WP 217 0 41 [vA r, a1, a2, a3, a4] (vA r :: S) h Q := wp_aload rfl rfl
theorem s217_41 : WP 217 0 41 L (vA (some a) :: S) h Q ↔ (zhas 59 (hk h a) = true ∧ WP 217 0 44 L (hm h a 59 :: S) h Q) := wp_if rfl rfl rfl
theorem s217_44 : WP 217 0 44 L (vI y :: vI x :: S) h Q ↔ zif (x < y) (WP 217 0 47 L S h Q) (WP 217 0 117 L S h Q) := wp_bN zc_lt rfl rfl rfl
theorem s217_47 : WP 217 0 47 [vA r, a1, a2, a3, a4] S h Q ↔ WP 217 0 48 [vA r, a1, a2, a3, a4] (vA r :: S) h Q := wp_aload rfl rfl
theorem s217_48 : WP 217 0 48 [a0, vI x, a2, a3, a4] S h Q ↔ WP 217 0 49 [a0, vI x, a2, a3, a4] (vI x :: S) h Q := wp_iload rfl rfl
theorem s217_49 : WP 217 0 49 [vA r, a1, a2, a3, a4] S h Q ↔ WP 217 0 50 [vA r, a1, a2, a3, a4] (vA r :: S) h Q := wp_aload rfl rfl
theorem s217_50 : WP 217 0 50 L (vA (some a) :: S) h Q ↔ (zhas 59 (hk h a) = true ∧ WP 217 0 53 L (hm h a 59 :: S) h Q) := wp_if rfl rfl rfl
theorem s217_53 : WP 217 0 53 [a0, a1, a2, vI x, a4] S h Q ↔ WP 217 0 54 [a0, a1, a2, vI x, a4] (vI x :: S) h Q := wp_iload rfl rfl
theorem s217_54 : WP 217 0 54 L (vI y :: vI x :: S) h Q ↔ WP 217 0 55 L (vI (wr (x - y)) :: S) h Q := wp_pl rfl rfl rfl
theorem s217_55 : WP 217 0 55 L (vI x1 :: vI x0 :: vA (some a) :: S) h Q ↔ ((hk h a).1 = 110 ∧ (zw S ≤ 8 ∧ WP 166 0 0 [vA (some a), vI x0, vI x1, vJ] [] h (zret 217 0 55 58 L S Q))) := wp_V1 (c := 110) rfl rfl (fun _ => rfl) rfl rfl (zcan_of rfl rfl) rfl rfl rfl
theorem s217_58 : WP 217 0 58 [a0, a1, a2, a3, a4] (vI x :: S) h Q ↔ WP 217 0 60 [a0, a1, a2, a3, vI x] S h Q := wp_istore rfl rfl rfl
theorem s217_60 : WP 217 0 60 [a0, a1, a2, a3, vI x] S h Q ↔ WP 217 0 62 [a0, a1, a2, a3, vI x] (vI x :: S) h Q := wp_iload rfl rfl
theorem s217_62 : WP 217 0 62 L (vI x :: S) h Q ↔ zif (x = 0) (WP 217 0 111 L S h Q) (WP 217 0 65 L S h Q) := wp_bE zc_eq rfl rfl rfl
theorem s217_65 : WP 217 0 65 [vA r, a1, a2, a3, a4] S h Q ↔ WP 217 0 66 [vA r, a1, a2, a3, a4] (vA r :: S) h Q := wp_aload rfl rfl
theorem s217_66 : WP 217 0 66 [vA r, a1, a2, a3, a4] S h Q ↔ WP 217 0 67 [vA r, a1, a2, a3, a4] (vA r :: S) h Q := wp_aload rfl rfl
theorem s217_67 : WP 217 0 67 L (vA (some a) :: S) h Q ↔ (zhas 57 (hk h a) = true ∧ WP 217 0 70 L (hm h a 57 :: S) h Q) := wp_if rfl rfl rfl
theorem s217_70 : WP 217 0 70 [a0, a1, a2, vI x, a4] S h Q ↔ WP 217 0 71 [a0, a1, a2, vI x, a4] (vI x :: S) h Q := wp_iload rfl rfl
theorem s217_71 : WP 217 0 71 [a0, vI x, a2, a3, a4] S h Q ↔ WP 217 0 72 [a0, vI x, a2, a3, a4] (vI x :: S) h Q := wp_iload rfl rfl
theorem s217_72 : WP 217 0 72 L (vI x2 :: vI x1 :: vA r0 :: vA (some a) :: S) h Q ↔ ((hk h a).1 = 110 ∧ (zw S ≤ 8 ∧ WP 167 0 0 [vA (some a), vA r0, vI x1, vI x2, vJ, vJ, vJ, vJ] [] h (zret 217 0 72 75 L S Q))) := wp_V1 (c := 110) rfl rfl (fun _ => rfl) rfl rfl (zcan_of rfl rfl) rfl rfl rfl
theorem s217_75 : WP 217 0 75 L (vI x :: S) h Q ↔ zif (x = 0) (WP 217 0 95 L S h Q) (WP 217 0 78 L S h Q) := wp_bE zc_eq rfl rfl rfl
theorem s217_78 : WP 217 0 78 [a0, a1, vI x, a3, a4] S h Q ↔ WP 217 0 79 [a0, a1, vI x, a3, a4] (vI x :: S) h Q := wp_iload rfl rfl
theorem s217_79 : WP 217 0 79 L (vI x :: S) h Q ↔ zif (x = 0) (WP 217 0 82 L S h Q) (WP 217 0 86 L S h Q) := wp_bN zc_eq rfl rfl rfl
theorem s217_82 : WP 217 0 82 [a0, a1, a2, vI x, a4] S h Q ↔ WP 217 0 83 [a0, a1, a2, vI x, a4] (vI x :: S) h Q := wp_iload rfl rfl
theorem s217_83 : WP 217 0 83 L S h Q ↔ WP 217 0 94 L S h Q := wp_pl rfl rfl rfl
theorem s217_86 : WP 217 0 86 [vA r, a1, a2, a3, a4] S h Q ↔ WP 217 0 87 [vA r, a1, a2, a3, a4] (vA r :: S) h Q := wp_aload rfl rfl
theorem s217_87 : WP 217 0 87 L (vA (some a) :: S) h Q ↔ (zhas 62 (hk h a) = true ∧ WP 217 0 90 L (hm h a 62 :: S) h Q) := wp_if rfl rfl rfl
theorem s217_90 : WP 217 0 90 [a0, a1, vI x, a3, a4] S h Q ↔ WP 217 0 91 [a0, a1, vI x, a3, a4] (vI x :: S) h Q := wp_iload rfl rfl
theorem s217_91 : WP 217 0 91 L S h Q ↔ WP 217 0 92 L (vI 1 :: S) h Q := wp_pl rfl rfl rfl
theorem s217_92 : WP 217 0 92 L (vI y :: vI x :: S) h Q ↔ WP 217 0 93 L (vI (wr (x - y)) :: S) h Q := wp_pl rfl rfl rfl
theorem s217_93 : WP 217 0 93 L (vI x :: vA (some a) :: S) h Q ↔ (((hk h a).1 = 1 ∧ 0 ≤ x ∧ x < ((hk h a).2 : Int)) ∧ WP 217 0 94 L (hm h a x.toNat :: S) h Q) := wp_if rfl rfl rfl
theorem s217_94 : WP 217 0 94 L [vI x] h Q ↔ Q (.inl (some (vI x))) h := wp_iret0 rfl rfl
theorem s217_95 : WP 217 0 95 [vA r, a1, a2, a3, a4] S h Q ↔ WP 217 0 96 [vA r, a1, a2, a3, a4] (vA r :: S) h Q := wp_aload rfl rfl
theorem s217_96 : WP 217 0 96 [a0, vI x, a2, a3, a4] S h Q ↔ WP 217 0 97 [a0, vI x, a2, a3, a4] (vI x :: S) h Q := wp_iload rfl rfl
theorem s217_97 : WP 217 0 97 [vA r, a1, a2, a3, a4] S h Q ↔ WP 217 0 98 [vA r, a1, a2, a3, a4] (vA r :: S) h Q := wp_aload rfl rfl
theorem s217_98 : WP 217 0 98 L (vA (some a) :: S) h Q ↔ (zhas 59 (hk h a) = true ∧ WP 217 0 101 L (hm h a 59 :: S) h Q) := wp_if rfl rfl rfl
theorem s217_101 : WP 217 0 101 [a0, a1, a2, vI x, a4] S h Q ↔ WP 217 0 102 [a0, a1, a2, vI x, a4] (vI x :: S) h Q := wp_iload rfl rfl
theorem s217_102 : WP 217 0 102 L (vI y :: vI x :: S) h Q ↔ WP 217 0 103 L (vI (wr (x - y)) :: S) h Q := wp_pl rfl rfl rfl
theorem s217_103 : WP 217 0 103 L (vI x1 :: vI x0 :: vA (some a) :: S) h Q ↔ ((hk h a).1 = 110 ∧ (zw S ≤ 8 ∧ WP 221 0 0 [vA (some a), vI x0, vI x1, vJ] [] h (zret 217 0 103 106 L S Q))) := wp_V1 (c := 110) rfl rfl (fun _ => rfl) rfl rfl (zcan_of rfl rfl) rfl rfl rfl
theorem s217_106 : WP 217 0 106 [a0, a1, a2, a3, a4] (vI x :: S) h Q ↔ WP 217 0 108 [a0, a1, a2, a3, vI x] S h Q := wp_istore rfl rfl rfl
theorem s217_108 : WP 217 0 108 L S h Q ↔ WP 217 0 60 L S h Q := wp_pl rfl rfl rfl
theorem s217_111 : WP 217 0 111 [a0, a1, a2, vI x, a4] S h Q ↔ WP 217 0 114 [a0, a1, a2, vI (wr (x + 1)), a4] S h Q := wp_iinc rfl rfl rfl
theorem s217_114 : WP 217 0 114 L S h Q ↔ WP 217 0 39 L S h Q := wp_pl rfl rfl rfl
theorem s217_117 : WP 217 0 117 L S h Q ↔ WP 217 0 118 L (vI (-1) :: S) h Q := wp_pl rfl rfl rfl
theorem s217_118 : WP 217 0 118 L [vI x] h Q ↔ Q (.inl (some (vI x))) h := wp_iret0 rfl rfl
/-! RepeatFreeModel.mirror()I -/
theorem s218_0 : WP 218 0 0 [vA r, a1, a2, a3, a4] S h Q ↔ WP 218 0 1 [vA r, a1, a2, a3, a4] (vA r :: S) h Q := wp_aload rfl rfl
theorem s218_1 : WP 218 0 1 L S h Q ↔ WP 218 0 2 L (vI 0 :: S) h Q := wp_pl rfl rfl rfl
theorem s218_2 : WP 218 0 2 L (vI x :: vA (some a) :: S) h Q ↔ ((zNC ≤ a ∧ zhas 45 (hk h a) = true) ∧ WP 218 0 5 L S (hput h a 45 (vI x)) Q) := wp_put0 rfl rfl
theorem s218_5 : WP 218 0 5 L S h Q ↔ WP 218 0 6 L (vI 0 :: S) h Q := wp_pl rfl rfl rfl
theorem s218_6 : WP 218 0 6 [a0, a1, a2, a3, a4] (vI x :: S) h Q ↔ WP 218 0 7 [a0, vI x, a2, a3, a4] S h Q := wp_istore rfl rfl rfl
theorem s218_7 : WP 218 0 7 L S h Q ↔ WP 218 0 8 L (vI 0 :: S) h Q := wp_pl rfl rfl rfl
theorem s218_8 : WP 218 0 8 [a0, a1, a2, a3, a4] (vI x :: S) h Q ↔ WP 218 0 9 [a0, a1, vI x, a3, a4] S h Q := wp_istore rfl rfl rfl
theorem s218_9 : WP 218 0 9 [a0, a1, vI x, a3, a4] S h Q ↔ WP 218 0 10 [a0, a1, vI x, a3, a4] (vI x :: S) h Q := wp_iload rfl rfl
theorem s218_10 : WP 218 0 10 [vA r, a1, a2, a3, a4] S h Q ↔ WP 218 0 11 [vA r, a1, a2, a3, a4] (vA r :: S) h Q := wp_aload rfl rfl
theorem s218_11 : WP 218 0 11 L (vA (some a) :: S) h Q ↔ (zhas 59 (hk h a) = true ∧ WP 218 0 14 L (hm h a 59 :: S) h Q) := wp_if rfl rfl rfl
theorem s218_14 : WP 218 0 14 L (vI y :: vI x :: S) h Q ↔ zif (x < y) (WP 218 0 17 L S h Q) (WP 218 0 101 L S h Q) := wp_bN zc_lt rfl rfl rfl
theorem s218_17 : WP 218 0 17 [a0, a1, vI x, a3, a4] S h Q ↔ WP 218 0 18 [a0, a1, vI x, a3, a4] (vI x :: S) h Q := wp_iload rfl rfl
theorem s218_18 : WP 218 0 18 [a0, a1, a2, a3, a4] (vI x :: S) h Q ↔ WP 218 0 19 [a0, a1, a2, vI x, a4] S h Q := wp_istore rfl rfl rfl
theorem s218_19 : WP 218 0 19 [a0, a1, a2, vI x, a4] S h Q ↔ WP 218 0 20 [a0, a1, a2, vI x, a4] (vI x :: S) h Q := wp_iload rfl rfl
theorem s218_20 : WP 218 0 20 [vA r, a1, a2, a3, a4] S h Q ↔ WP 218 0 21 [vA r, a1, a2, a3, a4] (vA r :: S) h Q := wp_aload rfl rfl
theorem s218_21 : WP 218 0 21 L (vA (some a) :: S) h Q ↔ (zhas 59 (hk h a) = true ∧ WP 218 0 24 L (hm h a 59 :: S) h Q) := wp_if rfl rfl rfl
theorem s218_24 : WP 218 0 24 L (vI y :: vI x :: S) h Q ↔ zif (x < y) (WP 218 0 27 L S h Q) (WP 218 0 95 L S h Q) := wp_bN zc_lt rfl rfl rfl
theorem s218_27 : WP 218 0 27 L S h Q ↔ WP 218 0 28 L (vI 0 :: S) h Q := wp_pl rfl rfl rfl
theorem s218_28 : WP 218 0 28 [a0, a1, a2, a3, a4] (vI x :: S) h Q ↔ WP 218 0 30 [a0, a1, a2, a3, vI x] S h Q := wp_istore rfl rfl rfl
theorem s218_30 : WP 218 0 30 [a0, a1, vI x, a3, a4] S h Q ↔ WP 218 0 31 [a0, a1, vI x, a3, a4] (vI x :: S) h Q := wp_iload rfl rfl
theorem s218_31 : WP 218 0 31 [a0, a1, a2, a3, vI x] S h Q ↔ WP 218 0 33 [a0, a1, a2, a3, vI x] (vI x :: S) h Q := wp_iload rfl rfl
theorem s218_33 : WP 218 0 33 L (vI y :: vI x :: S) h Q ↔ WP 218 0 34 L (vI (wr (x + y)) :: S) h Q := wp_pl rfl rfl rfl
theorem s218_34 : WP 218 0 34 [a0, a1, a2, vI x, a4] S h Q ↔ WP 218 0 35 [a0, a1, a2, vI x, a4] (vI x :: S) h Q := wp_iload rfl rfl
theorem s218_35 : WP 218 0 35 [a0, a1, a2, a3, vI x] S h Q ↔ WP 218 0 37 [a0, a1, a2, a3, vI x] (vI x :: S) h Q := wp_iload rfl rfl
theorem s218_37 : WP 218 0 37 L (vI y :: vI x :: S) h Q ↔ WP 218 0 38 L (vI (wr (x - y)) :: S) h Q := wp_pl rfl rfl rfl
theorem s218_38 : WP 218 0 38 L (vI y :: vI x :: S) h Q ↔ zif (x < y) (WP 218 0 41 L S h Q) (WP 218 0 68 L S h Q) := wp_bN zc_lt rfl rfl rfl
theorem s218_41 : WP 218 0 41 [vA r, a1, a2, a3, a4] S h Q ↔ WP 218 0 42 [vA r, a1, a2, a3, a4] (vA r :: S) h Q := wp_aload rfl rfl
theorem s218_42 : WP 218 0 42 L (vA (some a) :: S) h Q ↔ (zhas 57 (hk h a) = true ∧ WP 218 0 45 L (hm h a 57 :: S) h Q) := wp_if rfl rfl rfl
theorem s218_45 : WP 218 0 45 [a0, a1, vI x, a3, a4] S h Q ↔ WP 218 0 46 [a0, a1, vI x, a3, a4] (vI x :: S) h Q := wp_iload rfl rfl
theorem s218_46 : WP 218 0 46 [a0, a1, a2, a3, vI x] S h Q ↔ WP 218 0 48 [a0, a1, a2, a3, vI x] (vI x :: S) h Q := wp_iload rfl rfl
theorem s218_48 : WP 218 0 48 L (vI y :: vI x :: S) h Q ↔ WP 218 0 49 L (vI (wr (x + y)) :: S) h Q := wp_pl rfl rfl rfl
theorem s218_49 : WP 218 0 49 L (vI x :: vA (some a) :: S) h Q ↔ (((hk h a).1 = 1 ∧ 0 ≤ x ∧ x < ((hk h a).2 : Int)) ∧ WP 218 0 50 L (hm h a x.toNat :: S) h Q) := wp_if rfl rfl rfl
theorem s218_50 : WP 218 0 50 [vA r, a1, a2, a3, a4] S h Q ↔ WP 218 0 51 [vA r, a1, a2, a3, a4] (vA r :: S) h Q := wp_aload rfl rfl
theorem s218_51 : WP 218 0 51 L (vA (some a) :: S) h Q ↔ (zhas 57 (hk h a) = true ∧ WP 218 0 54 L (hm h a 57 :: S) h Q) := wp_if rfl rfl rfl
theorem s218_54 : WP 218 0 54 [a0, a1, a2, vI x, a4] S h Q ↔ WP 218 0 55 [a0, a1, a2, vI x, a4] (vI x :: S) h Q := wp_iload rfl rfl
theorem s218_55 : WP 218 0 55 [a0, a1, a2, a3, vI x] S h Q ↔ WP 218 0 57 [a0, a1, a2, a3, vI x] (vI x :: S) h Q := wp_iload rfl rfl
theorem s218_57 : WP 218 0 57 L (vI y :: vI x :: S) h Q ↔ WP 218 0 58 L (vI (wr (x - y)) :: S) h Q := wp_pl rfl rfl rfl
theorem s218_58 : WP 218 0 58 L (vI x :: vA (some a) :: S) h Q ↔ (((hk h a).1 = 1 ∧ 0 ≤ x ∧ x < ((hk h a).2 : Int)) ∧ WP 218 0 59 L (hm h a x.toNat :: S) h Q) := wp_if rfl rfl rfl
theorem s218_59 : WP 218 0 59 L (vI y :: vI x :: S) h Q ↔ zif (x = y) (WP 218 0 62 L S h Q) (WP 218 0 68 L S h Q) := wp_bN zc_eq rfl rfl rfl
theorem s218_62 : WP 218 0 62 [a0, a1, a2, a3, vI x] S h Q ↔ WP 218 0 65 [a0, a1, a2, a3, vI (wr (x + 1))] S h Q := wp_iinc rfl rfl rfl
theorem s218_65 : WP 218 0 65 L S h Q ↔ WP 218 0 30 L S h Q := wp_pl rfl rfl rfl
theorem s218_68 : WP 218 0 68 [a0, a1, vI x, a3, a4] S h Q ↔ WP 218 0 69 [a0, a1, vI x, a3, a4] (vI x :: S) h Q := wp_iload rfl rfl
theorem s218_69 : WP 218 0 69 [a0, a1, a2, a3, vI x] S h Q ↔ WP 218 0 71 [a0, a1, a2, a3, vI x] (vI x :: S) h Q := wp_iload rfl rfl
theorem s218_71 : WP 218 0 71 L (vI y :: vI x :: S) h Q ↔ WP 218 0 72 L (vI (wr (x + y)) :: S) h Q := wp_pl rfl rfl rfl
theorem s218_72 : WP 218 0 72 [a0, a1, a2, vI x, a4] S h Q ↔ WP 218 0 73 [a0, a1, a2, vI x, a4] (vI x :: S) h Q := wp_iload rfl rfl
theorem s218_73 : WP 218 0 73 [a0, a1, a2, a3, vI x] S h Q ↔ WP 218 0 75 [a0, a1, a2, a3, vI x] (vI x :: S) h Q := wp_iload rfl rfl
theorem s218_75 : WP 218 0 75 L (vI y :: vI x :: S) h Q ↔ WP 218 0 76 L (vI (wr (x - y)) :: S) h Q := wp_pl rfl rfl rfl
theorem s218_76 : WP 218 0 76 L (vI y :: vI x :: S) h Q ↔ zif (x < y) (WP 218 0 89 L S h Q) (WP 218 0 79 L S h Q) := wp_bE zc_lt rfl rfl rfl
theorem s218_79 : WP 218 0 79 [a0, vI x, a2, a3, a4] S h Q ↔ WP 218 0 80 [a0, vI x, a2, a3, a4] (vI x :: S) h Q := wp_iload rfl rfl
theorem s218_80 : WP 218 0 80 [a0, a1, a2, vI x, a4] S h Q ↔ WP 218 0 81 [a0, a1, a2, vI x, a4] (vI x :: S) h Q := wp_iload rfl rfl
theorem s218_81 : WP 218 0 81 [a0, a1, vI x, a3, a4] S h Q ↔ WP 218 0 82 [a0, a1, vI x, a3, a4] (vI x :: S) h Q := wp_iload rfl rfl
theorem s218_82 : WP 218 0 82 L (vI y :: vI x :: S) h Q ↔ WP 218 0 83 L (vI (wr (x - y)) :: S) h Q := wp_pl rfl rfl rfl
theorem s218_83 : WP 218 0 83 L S h Q ↔ WP 218 0 84 L (vI 1 :: S) h Q := wp_pl rfl rfl rfl
theorem s218_84 : WP 218 0 84 L (vI y :: vI x :: S) h Q ↔ WP 218 0 85 L (vI (wr (x + y)) :: S) h Q := wp_pl rfl rfl rfl
theorem s218_85 : WP 218 0 85 L (vI x1 :: vI x0 :: S) h Q ↔ (zw S ≤ 8 ∧ WP 383 0 0 [vI x0, vI x1] [] h (zret 218 0 85 88 L S Q)) := wp_S rfl rfl (zcan_of rfl rfl) rfl rfl rfl
theorem s218_88 : WP 218 0 88 [a0, a1, a2, a3, a4] (vI x :: S) h Q ↔ WP 218 0 89 [a0, vI x, a2, a3, a4] S h Q := wp_istore rfl rfl rfl
theorem s218_89 : WP 218 0 89 [a0, a1, a2, vI x, a4] S h Q ↔ WP 218 0 92 [a0, a1, a2, vI (wr (x + 1)), a4] S h Q := wp_iinc rfl rfl rfl
theorem s218_92 : WP 218 0 92 L S h Q ↔ WP 218 0 19 L S h Q := wp_pl rfl rfl rfl
theorem s218_95 : WP 218 0 95 [a0, a1, vI x, a3, a4] S h Q ↔ WP 218 0 98 [a0, a1, vI (wr (x + 1)), a3, a4] S h Q := wp_iinc rfl rfl rfl
theorem s218_98 : WP 218 0 98 L S h Q ↔ WP 218 0 9 L S h Q := wp_pl rfl rfl rfl
theorem s218_101 : WP 218 0 101 [a0, vI x, a2, a3, a4] S h Q ↔ WP 218 0 102 [a0, vI x, a2, a3, a4] (vI x :: S) h Q := wp_iload rfl rfl
theorem s218_102 : WP 218 0 102 L [vI x] h Q ↔ Q (.inl (some (vI x))) h := wp_iret0 rfl rfl
/-! RepeatFreeModel.named(II)I -/
theorem s219_0 : WP 219 0 0 [vA r, a1, a2, a3, a4, a5, a6] S h Q ↔ WP 219 0 1 [vA r, a1, a2, a3, a4, a5, a6] (vA r :: S) h Q := wp_aload rfl rfl
theorem s219_1 : WP 219 0 1 L (vA (some a) :: S) h Q ↔ ((hk h a).1 = 110 ∧ (zw S ≤ 8 ∧ WP 254 0 0 [vA (some a), vJ] [] h (zret 219 0 1 4 L S Q))) := wp_V1 (c := 110) rfl rfl (fun _ => rfl) rfl rfl (zcan_of rfl rfl) rfl rfl rfl
theorem s219_4 : WP 219 0 4 [a0, a1, a2, a3, a4, a5, a6] (vI x :: S) h Q ↔ WP 219 0 5 [a0, a1, a2, vI x, a4, a5, a6] S h Q := wp_istore rfl rfl rfl
theorem s219_5 : WP 219 0 5 L S h Q ↔ WP 219 0 6 L (vI 0 :: S) h Q := wp_pl rfl rfl rfl
theorem s219_6 : WP 219 0 6 [a0, a1, a2, a3, a4, a5, a6] (vI x :: S) h Q ↔ WP 219 0 8 [a0, a1, a2, a3, vI x, a5, a6] S h Q := wp_istore rfl rfl rfl
theorem s219_8 : WP 219 0 8 [a0, a1, a2, a3, vI x, a5, a6] S h Q ↔ WP 219 0 10 [a0, a1, a2, a3, vI x, a5, a6] (vI x :: S) h Q := wp_iload rfl rfl
theorem s219_10 : WP 219 0 10 [a0, a1, vI x, a3, a4, a5, a6] S h Q ↔ WP 219 0 11 [a0, a1, vI x, a3, a4, a5, a6] (vI x :: S) h Q := wp_iload rfl rfl
theorem s219_11 : WP 219 0 11 L (vI y :: vI x :: S) h Q ↔ zif (x < y) (WP 219 0 14 L S h Q) (WP 219 0 102 L S h Q) := wp_bN zc_lt rfl rfl rfl
theorem s219_14 : WP 219 0 14 L S h Q ↔ WP 219 0 15 L (vI 1 :: S) h Q := wp_pl rfl rfl rfl
theorem s219_15 : WP 219 0 15 [a0, a1, a2, a3, a4, a5, a6] (vI x :: S) h Q ↔ WP 219 0 17 [a0, a1, a2, a3, a4, vI x, a6] S h Q := wp_istore rfl rfl rfl
theorem s219_17 : WP 219 0 17 L S h Q ↔ WP 219 0 18 L (vI 0 :: S) h Q := wp_pl rfl rfl rfl
theorem s219_18 : WP 219 0 18 [a0, a1, a2, a3, a4, a5, a6] (vI x :: S) h Q ↔ WP 219 0 20 [a0, a1, a2, a3, a4, a5, vI x] S h Q := wp_istore rfl rfl rfl
theorem s219_20 : WP 219 0 20 [a0, a1, a2, a3, a4, a5, vI x] S h Q ↔ WP 219 0 22 [a0, a1, a2, a3, a4, a5, vI x] (vI x :: S) h Q := wp_iload rfl rfl
theorem s219_22 : WP 219 0 22 L S h Q ↔ WP 219 0 24 L (vI 6 :: S) h Q := wp_pl rfl rfl rfl
theorem s219_24 : WP 219 0 24 L (vI y :: vI x :: S) h Q ↔ zif (x < y) (WP 219 0 27 L S h Q) (WP 219 0 88 L S h Q) := wp_bN zc_lt rfl rfl rfl
theorem s219_27 : WP 219 0 27 [a0, a1, a2, a3, a4, vI x, a6] S h Q ↔ WP 219 0 29 [a0, a1, a2, a3, a4, vI x, a6] (vI x :: S) h Q := wp_iload rfl rfl
theorem s219_29 : WP 219 0 29 L (vI x :: S) h Q ↔ zif (x = 0) (WP 219 0 79 L S h Q) (WP 219 0 32 L S h Q) := wp_bE zc_eq rfl rfl rfl
theorem s219_32 : WP 219 0 32 [vA r, a1, a2, a3, a4, a5, a6] S h Q ↔ WP 219 0 33 [vA r, a1, a2, a3, a4, a5, a6] (vA r :: S) h Q := wp_aload rfl rfl
theorem s219_33 : WP 219 0 33 L (vA (some a) :: S) h Q ↔ (zhas 55 (hk h a) = true ∧ WP 219 0 36 L (hm h a 55 :: S) h Q) := wp_if rfl rfl rfl
theorem s219_36 : WP 219 0 36 L S h Q ↔ WP 219 0 38 L (vI 6 :: S) h Q := wp_pl rfl rfl rfl
theorem s219_38 : WP 219 0 38 L S h Q ↔ WP 219 0 40 L (vI 6 :: S) h Q := wp_pl rfl rfl rfl
theorem s219_40 : WP 219 0 40 [a0, vI x, a2, a3, a4, a5, a6] S h Q ↔ WP 219 0 41 [a0, vI x, a2, a3, a4, a5, a6] (vI x :: S) h Q := wp_iload rfl rfl
theorem s219_41 : WP 219 0 41 [a0, a1, a2, a3, vI x, a5, a6] S h Q ↔ WP 219 0 43 [a0, a1, a2, a3, vI x, a5, a6] (vI x :: S) h Q := wp_iload rfl rfl
theorem s219_43 : WP 219 0 43 L (vI y :: vI x :: S) h Q ↔ WP 219 0 44 L (vI (wr (x + y)) :: S) h Q := wp_pl rfl rfl rfl
theorem s219_44 : WP 219 0 44 L (vI y :: vI x :: S) h Q ↔ WP 219 0 45 L (vI (wr (x * y)) :: S) h Q := wp_pl rfl rfl rfl
theorem s219_45 : WP 219 0 45 L (vI y :: vI x :: S) h Q ↔ WP 219 0 46 L (vI (wr (x + y)) :: S) h Q := wp_pl rfl rfl rfl
theorem s219_46 : WP 219 0 46 [a0, a1, a2, a3, a4, a5, vI x] S h Q ↔ WP 219 0 48 [a0, a1, a2, a3, a4, a5, vI x] (vI x :: S) h Q := wp_iload rfl rfl
theorem s219_48 : WP 219 0 48 L (vI y :: vI x :: S) h Q ↔ WP 219 0 49 L (vI (wr (x + y)) :: S) h Q := wp_pl rfl rfl rfl
theorem s219_49 : WP 219 0 49 L (vI x :: vA (some a) :: S) h Q ↔ (((hk h a).1 = 1 ∧ 0 ≤ x ∧ x < ((hk h a).2 : Int)) ∧ WP 219 0 50 L (hm h a x.toNat :: S) h Q) := wp_if rfl rfl rfl
theorem s219_50 : WP 219 0 50 [a0, a1, a2, a3, a4, a5, vI x] S h Q ↔ WP 219 0 52 [a0, a1, a2, a3, a4, a5, vI x] (vI x :: S) h Q := wp_iload rfl rfl
theorem s219_52 : WP 219 0 52 [a0, a1, a2, vI x, a4, a5, a6] S h Q ↔ WP 219 0 53 [a0, a1, a2, vI x, a4, a5, a6] (vI x :: S) h Q := wp_iload rfl rfl
theorem s219_53 : WP 219 0 53 L (vI y :: vI x :: S) h Q ↔ zif (x < y) (WP 219 0 56 L S h Q) (WP 219 0 71 L S h Q) := wp_bN zc_lt rfl rfl rfl
theorem s219_56 : WP 219 0 56 [vA r, a1, a2, a3, a4, a5, a6] S h Q ↔ WP 219 0 57 [vA r, a1, a2, a3, a4, a5, a6] (vA r :: S) h Q := wp_aload rfl rfl
theorem s219_57 : WP 219 0 57 L (vA (some a) :: S) h Q ↔ (zhas 46 (hk h a) = true ∧ WP 219 0 60 L (hm h a 46 :: S) h Q) := wp_if rfl rfl rfl
theorem s219_60 : WP 219 0 60 [vA r, a1, a2, a3, a4, a5, a6] S h Q ↔ WP 219 0 61 [vA r, a1, a2, a3, a4, a5, a6] (vA r :: S) h Q := wp_aload rfl rfl
theorem s219_61 : WP 219 0 61 L (vA (some a) :: S) h Q ↔ (zhas 49 (hk h a) = true ∧ WP 219 0 64 L (hm h a 49 :: S) h Q) := wp_if rfl rfl rfl
theorem s219_64 : WP 219 0 64 [a0, a1, a2, a3, a4, a5, vI x] S h Q ↔ WP 219 0 66 [a0, a1, a2, a3, a4, a5, vI x] (vI x :: S) h Q := wp_iload rfl rfl
theorem s219_66 : WP 219 0 66 L (vI y :: vI x :: S) h Q ↔ WP 219 0 67 L (vI (wr (x + y)) :: S) h Q := wp_pl rfl rfl rfl
theorem s219_67 : WP 219 0 67 L (vI x :: vA (some a) :: S) h Q ↔ ((((hk h a).1 = 2 ∨ (hk h a).1 = 3) ∧ 0 ≤ x ∧ x < ((hk h a).2 : Int)) ∧ WP 219 0 68 L (hm h a x.toNat :: S) h Q) := wp_if rfl rfl rfl
theorem s219_68 : WP 219 0 68 L S h Q ↔ WP 219 0 72 L S h Q := wp_pl rfl rfl rfl
theorem s219_71 : WP 219 0 71 L S h Q ↔ WP 219 0 72 L (vI 0 :: S) h Q := wp_pl rfl rfl rfl
theorem s219_72 : WP 219 0 72 L (vI y :: vI x :: S) h Q ↔ zif (x = y) (WP 219 0 75 L S h Q) (WP 219 0 79 L S h Q) := wp_bN zc_eq rfl rfl rfl
theorem s219_75 : WP 219 0 75 L S h Q ↔ WP 219 0 76 L (vI 1 :: S) h Q := wp_pl rfl rfl rfl
theorem s219_76 : WP 219 0 76 L S h Q ↔ WP 219 0 80 L S h Q := wp_pl rfl rfl rfl
theorem s219_79 : WP 219 0 79 L S h Q ↔ WP 219 0 80 L (vI 0 :: S) h Q := wp_pl rfl rfl rfl
theorem s219_80 : WP 219 0 80 [a0, a1, a2, a3, a4, a5, a6] (vI x :: S) h Q ↔ WP 219 0 82 [a0, a1, a2, a3, a4, vI x, a6] S h Q := wp_istore rfl rfl rfl
theorem s219_82 : WP 219 0 82 [a0, a1, a2, a3, a4, a5, vI x] S h Q ↔ WP 219 0 85 [a0, a1, a2, a3, a4, a5, vI (wr (x + 1))] S h Q := wp_iinc rfl rfl rfl
theorem s219_85 : WP 219 0 85 L S h Q ↔ WP 219 0 20 L S h Q := wp_pl rfl rfl rfl
theorem s219_88 : WP 219 0 88 [a0, a1, a2, a3, a4, vI x, a6] S h Q ↔ WP 219 0 90 [a0, a1, a2, a3, a4, vI x, a6] (vI x :: S) h Q := wp_iload rfl rfl
theorem s219_90 : WP 219 0 90 L (vI x :: S) h Q ↔ zif (x = 0) (WP 219 0 96 L S h Q) (WP 219 0 93 L S h Q) := wp_bE zc_eq rfl rfl rfl
theorem s219_93 : WP 219 0 93 [a0, a1, a2, a3, vI x, a5, a6] S h Q ↔ WP 219 0 95 [a0, a1, a2, a3, vI x, a5, a6] (vI x :: S) h Q := wp_iload rfl rfl
theorem s219_95 : WP 219 0 95 L [vI x] h Q ↔ Q (.inl (some (vI x))) h := wp_iret0 rfl rfl
theorem s219_96 : WP 219 0 96 [a0, a1, a2, a3, vI x, a5, a6] S h Q ↔ WP 219 0 99 [a0, a1, a2, a3, vI (wr (x + 1)), a5, a6] S h Q := wp_iinc rfl rfl rfl
theorem s219_99 : WP 219 0 99 L S h Q ↔ WP 219 0 8 L S h Q := wp_pl rfl rfl rfl
theorem s219_102 : WP 219 0 102 L S h Q ↔ WP 219 0 103 L (vI (-1) :: S) h Q := wp_pl rfl rfl rfl
theorem s219_103 : WP 219 0 103 L [vI x] h Q ↔ Q (.inl (some (vI x))) h := wp_iret0 rfl rfl
/-! RepeatFreeModel.next()I -/
theorem s220_0 : WP 220 0 0 [vA r, a1, a2, a3, a4] S h Q ↔ WP 220 0 1 [vA r, a1, a2, a3, a4] (vA r :: S) h Q := wp_aload rfl rfl
theorem s220_1 : WP 220 0 1 L S h Q ↔ WP 220 0 2 L (vI 0 :: S) h Q := wp_pl rfl rfl rfl
theorem s220_2 : WP 220 0 2 L (vI x :: vA (some a) :: S) h Q ↔ ((zNC ≤ a ∧ zhas 45 (hk h a) = true) ∧ WP 220 0 5 L S (hput h a 45 (vI x)) Q) := wp_put0 rfl rfl
theorem s220_5 : WP 220 0 5 [vA r, a1, a2, a3, a4] S h Q ↔ WP 220 0 6 [vA r, a1, a2, a3, a4] (vA r :: S) h Q := wp_aload rfl rfl
theorem s220_6 : WP 220 0 6 [vA r, a1, a2, a3, a4] S h Q ↔ WP 220 0 7 [vA r, a1, a2, a3, a4] (vA r :: S) h Q := wp_aload rfl rfl
theorem s220_7 : WP 220 0 7 L (vA (some a) :: S) h Q ↔ (zhas 59 (hk h a) = true ∧ WP 220 0 10 L (hm h a 59 :: S) h Q) := wp_if rfl rfl rfl
theorem s220_10 : WP 220 0 10 L S h Q ↔ WP 220 0 12 L (vI 40 :: S) h Q := wp_pl rfl rfl rfl
theorem s220_12 : WP 220 0 12 L (vI y :: vI x :: S) h Q ↔ zif (y < x) (WP 220 0 15 L S h Q) (WP 220 0 19 L S h Q) := wp_bN zc_gt rfl rfl rfl
theorem s220_15 : WP 220 0 15 L S h Q ↔ WP 220 0 16 L (vI 1 :: S) h Q := wp_pl rfl rfl rfl
theorem s220_16 : WP 220 0 16 L S h Q ↔ WP 220 0 20 L S h Q := wp_pl rfl rfl rfl
theorem s220_19 : WP 220 0 19 L S h Q ↔ WP 220 0 20 L (vI 0 :: S) h Q := wp_pl rfl rfl rfl
theorem s220_20 : WP 220 0 20 L S h Q ↔ WP 220 0 21 L (vI 1 :: S) h Q := wp_pl rfl rfl rfl
theorem s220_21 : WP 220 0 21 L (vI x1 :: vI x0 :: vA (some a) :: S) h Q ↔ ((hk h a).1 = 110 ∧ (zw S ≤ 8 ∧ WP 248 0 0 [vA (some a), vI x0, vI x1] [] h (zret 220 0 21 24 L S Q))) := wp_V1 (c := 110) rfl rfl (fun _ => rfl) rfl rfl (zcan_of rfl rfl) rfl rfl rfl
theorem s220_24 : WP 220 0 24 L (vI x :: S) h Q ↔ zif (x = 0) (WP 220 0 29 L S h Q) (WP 220 0 27 L S h Q) := wp_bE zc_eq rfl rfl rfl
theorem s220_27 : WP 220 0 27 L S h Q ↔ WP 220 0 28 L (vI 0 :: S) h Q := wp_pl rfl rfl rfl
theorem s220_28 : WP 220 0 28 L [vI x] h Q ↔ Q (.inl (some (vI x))) h := wp_iret0 rfl rfl
theorem s220_29 : WP 220 0 29 [vA r, a1, a2, a3, a4] S h Q ↔ WP 220 0 30 [vA r, a1, a2, a3, a4] (vA r :: S) h Q := wp_aload rfl rfl
theorem s220_30 : WP 220 0 30 L (vA (some a) :: S) h Q ↔ ((hk h a).1 = 110 ∧ (zw S ≤ 8 ∧ WP 243 0 0 [vA (some a)] [] h (zret 220 0 30 33 L S Q))) := wp_V1 (c := 110) rfl rfl (fun _ => rfl) rfl rfl (zcan_of rfl rfl) rfl rfl rfl
theorem s220_33 : WP 220 0 33 [vA r, a1, a2, a3, a4] S h Q ↔ WP 220 0 34 [vA r, a1, a2, a3, a4] (vA r :: S) h Q := wp_aload rfl rfl
theorem s220_34 : WP 220 0 34 L (vA (some a) :: S) h Q ↔ ((hk h a).1 = 110 ∧ (zw S ≤ 8 ∧ WP 245 0 0 [vA (some a), vJ] [] h (zret 220 0 34 37 L S Q))) := wp_V1 (c := 110) rfl rfl (fun _ => rfl) rfl rfl (zcan_of rfl rfl) rfl rfl rfl
theorem s220_37 : WP 220 0 37 [vA r, a1, a2, a3, a4] S h Q ↔ WP 220 0 38 [vA r, a1, a2, a3, a4] (vA r :: S) h Q := wp_aload rfl rfl
theorem s220_38 : WP 220 0 38 [vA r, a1, a2, a3, a4] S h Q ↔ WP 220 0 39 [vA r, a1, a2, a3, a4] (vA r :: S) h Q := wp_aload rfl rfl
theorem s220_39 : WP 220 0 39 L (vA (some a) :: S) h Q ↔ (zhas 57 (hk h a) = true ∧ WP 220 0 42 L (hm h a 57 :: S) h Q) := wp_if rfl rfl rfl
theorem s220_42 : WP 220 0 42 [vA r, a1, a2, a3, a4] S h Q ↔ WP 220 0 43 [vA r, a1, a2, a3, a4] (vA r :: S) h Q := wp_aload rfl rfl
theorem s220_43 : WP 220 0 43 L (vA (some a) :: S) h Q ↔ (zhas 59 (hk h a) = true ∧ WP 220 0 46 L (hm h a 59 :: S) h Q) := wp_if rfl rfl rfl
theorem s220_46 : WP 220 0 46 L (vI x1 :: vA r0 :: vA (some a) :: S) h Q ↔ ((hk h a).1 = 110 ∧ (zw S ≤ 8 ∧ WP 169 0 0 [vA (some a), vA r0, vI x1, vJ] [] h (zret 220 0 46 49 L S Q))) := wp_V1 (c := 110) rfl rfl (fun _ => rfl) rfl rfl (zcan_of rfl rfl) rfl rfl rfl
theorem s220_49 : WP 220 0 49 [a0, a1, a2, a3, a4] (vI x :: S) h Q ↔ WP 220 0 50 [a0, vI x, a2, a3, a4] S h Q := wp_istore rfl rfl rfl
theorem s220_50 : WP 220 0 50 [vA r, a1, a2, a3, a4] S h Q ↔ WP 220 0 51 [vA r, a1, a2, a3, a4] (vA r :: S) h Q := wp_aload rfl rfl
theorem s220_51 : WP 220 0 51 L (vA (some a) :: S) h Q ↔ (zhas 59 (hk h a) = true ∧ WP 220 0 54 L (hm h a 59 :: S) h Q) := wp_if rfl rfl rfl
theorem s220_54 : WP 220 0 54 L S h Q ↔ WP 220 0 55 L (vI 1 :: S) h Q := wp_pl rfl rfl rfl
theorem s220_55 : WP 220 0 55 L (vI y :: vI x :: S) h Q ↔ WP 220 0 56 L (vI (wr (x - y)) :: S) h Q := wp_pl rfl rfl rfl
theorem s220_56 : WP 220 0 56 [a0, a1, a2, a3, a4] (vI x :: S) h Q ↔ WP 220 0 57 [a0, a1, vI x, a3, a4] S h Q := wp_istore rfl rfl rfl
theorem s220_57 : WP 220 0 57 [a0, a1, vI x, a3, a4] S h Q ↔ WP 220 0 58 [a0, a1, vI x, a3, a4] (vI x :: S) h Q := wp_iload rfl rfl
theorem s220_58 : WP 220 0 58 L (vI x :: S) h Q ↔ zif (x < 0) (WP 220 0 197 L S h Q) (WP 220 0 61 L S h Q) := wp_bE zc_lt rfl rfl rfl
theorem s220_61 : WP 220 0 61 [vA r, a1, a2, a3, a4] S h Q ↔ WP 220 0 62 [vA r, a1, a2, a3, a4] (vA r :: S) h Q := wp_aload rfl rfl
theorem s220_62 : WP 220 0 62 L (vA (some a) :: S) h Q ↔ ((hk h a).1 = 110 ∧ (zw S ≤ 8 ∧ WP 245 0 0 [vA (some a), vJ] [] h (zret 220 0 62 65 L S Q))) := wp_V1 (c := 110) rfl rfl (fun _ => rfl) rfl rfl (zcan_of rfl rfl) rfl rfl rfl
theorem s220_65 : WP 220 0 65 [vA r, a1, a2, a3, a4] S h Q ↔ WP 220 0 66 [vA r, a1, a2, a3, a4] (vA r :: S) h Q := wp_aload rfl rfl
theorem s220_66 : WP 220 0 66 L (vA (some a) :: S) h Q ↔ (zhas 57 (hk h a) = true ∧ WP 220 0 69 L (hm h a 57 :: S) h Q) := wp_if rfl rfl rfl
theorem s220_69 : WP 220 0 69 [a0, a1, vI x, a3, a4] S h Q ↔ WP 220 0 70 [a0, a1, vI x, a3, a4] (vI x :: S) h Q := wp_iload rfl rfl
theorem s220_70 : WP 220 0 70 L (vI x :: vA (some a) :: S) h Q ↔ (((hk h a).1 = 1 ∧ 0 ≤ x ∧ x < ((hk h a).2 : Int)) ∧ WP 220 0 71 L (hm h a x.toNat :: S) h Q) := wp_if rfl rfl rfl
theorem s220_71 : WP 220 0 71 L S h Q ↔ WP 220 0 72 L (vI 1 :: S) h Q := wp_pl rfl rfl rfl
theorem s220_72 : WP 220 0 72 L (vI y :: vI x :: S) h Q ↔ WP 220 0 73 L (vI (wr (x + y)) :: S) h Q := wp_pl rfl rfl rfl
theorem s220_73 : WP 220 0 73 [a0, a1, a2, a3, a4] (vI x :: S) h Q ↔ WP 220 0 74 [a0, a1, a2, vI x, a4] S h Q := wp_istore rfl rfl rfl
theorem s220_74 : WP 220 0 74 [a0, a1, a2, vI x, a4] S h Q ↔ WP 220 0 75 [a0, a1, a2, vI x, a4] (vI x :: S) h Q := wp_iload rfl rfl
theorem s220_75 : WP 220 0 75 [vA r, a1, a2, a3, a4] S h Q ↔ WP 220 0 76 [vA r, a1, a2, a3, a4] (vA r :: S) h Q := wp_aload rfl rfl
theorem s220_76 : WP 220 0 76 L (vA (some a) :: S) h Q ↔ (zhas 54 (hk h a) = true ∧ WP 220 0 79 L (hm h a 54 :: S) h Q) := wp_if rfl rfl rfl
theorem s220_79 : WP 220 0 79 L S h Q ↔ WP 220 0 80 L (vI 0 :: S) h Q := wp_pl rfl rfl rfl
theorem s220_80 : WP 220 0 80 L (vI x :: vA (some a) :: S) h Q ↔ (((hk h a).1 = 1 ∧ 0 ≤ x ∧ x < ((hk h a).2 : Int)) ∧ WP 220 0 81 L (hm h a x.toNat :: S) h Q) := wp_if rfl rfl rfl
theorem s220_81 : WP 220 0 81 L (vI y :: vI x :: S) h Q ↔ zif (x < y) (WP 220 0 84 L S h Q) (WP 220 0 191 L S h Q) := wp_bN zc_lt rfl rfl rfl
theorem s220_84 : WP 220 0 84 [a0, a1, vI x, a3, a4] S h Q ↔ WP 220 0 85 [a0, a1, vI x, a3, a4] (vI x :: S) h Q := wp_iload rfl rfl
theorem s220_85 : WP 220 0 85 [a0, vI x, a2, a3, a4] S h Q ↔ WP 220 0 86 [a0, vI x, a2, a3, a4] (vI x :: S) h Q := wp_iload rfl rfl
theorem s220_86 : WP 220 0 86 L (vI y :: vI x :: S) h Q ↔ zif (y < x) (WP 220 0 191 L S h Q) (WP 220 0 89 L S h Q) := wp_bE zc_gt rfl rfl rfl
theorem s220_89 : WP 220 0 89 [vA r, a1, a2, a3, a4] S h Q ↔ WP 220 0 90 [vA r, a1, a2, a3, a4] (vA r :: S) h Q := wp_aload rfl rfl
theorem s220_90 : WP 220 0 90 L (vA (some a) :: S) h Q ↔ (zhas 65 (hk h a) = true ∧ WP 220 0 93 L (hm h a 65 :: S) h Q) := wp_if rfl rfl rfl
theorem s220_93 : WP 220 0 93 L S h Q ↔ WP 220 0 96 L (vI 5000 :: S) h Q := wp_pl rfl rfl rfl
theorem s220_96 : WP 220 0 96 L (vI y :: vI x :: S) h Q ↔ zif (x = y) (WP 220 0 99 L S h Q) (WP 220 0 102 L S h Q) := wp_bN zc_eq rfl rfl rfl
theorem s220_99 : WP 220 0 99 L S h Q ↔ WP 220 0 101 L (vI (-2) :: S) h Q := wp_pl rfl rfl rfl
theorem s220_101 : WP 220 0 101 L [vI x] h Q ↔ Q (.inl (some (vI x))) h := wp_iret0 rfl rfl
theorem s220_102 : WP 220 0 102 [vA r, a1, a2, a3, a4] S h Q ↔ WP 220 0 103 [vA r, a1, a2, a3, a4] (vA r :: S) h Q := wp_aload rfl rfl
theorem s220_103 : WP 220 0 103 L (vA r :: S) h Q ↔ WP 220 0 104 L (vA r :: vA r :: S) h Q := wp_pl rfl rfl rfl
theorem s220_103i : WP 220 0 103 L (vI x :: S) h Q ↔ WP 220 0 104 L (vI x :: vI x :: S) h Q := wp_pl rfl rfl rfl
theorem s220_104 : WP 220 0 104 L (vA (some a) :: S) h Q ↔ (zhas 65 (hk h a) = true ∧ WP 220 0 107 L (hm h a 65 :: S) h Q) := wp_if rfl rfl rfl
theorem s220_107 : WP 220 0 107 L S h Q ↔ WP 220 0 108 L (vI 1 :: S) h Q := wp_pl rfl rfl rfl
theorem s220_108 : WP 220 0 108 L (vI y :: vI x :: S) h Q ↔ WP 220 0 109 L (vI (wr (x + y)) :: S) h Q := wp_pl rfl rfl rfl
theorem s220_109 : WP 220 0 109 L (vI x :: vA (some a) :: S) h Q ↔ ((zNC ≤ a ∧ zhas 65 (hk h a) = true) ∧ WP 220 0 112 L S (hput h a 65 (vI x)) Q) := wp_put0 rfl rfl
theorem s220_112 : WP 220 0 112 [vA r, a1, a2, a3, a4] S h Q ↔ WP 220 0 113 [vA r, a1, a2, a3, a4] (vA r :: S) h Q := wp_aload rfl rfl
theorem s220_113 : WP 220 0 113 L (vA (some a) :: S) h Q ↔ (zhas 64 (hk h a) = true ∧ WP 220 0 116 L (hm h a 64 :: S) h Q) := wp_if rfl rfl rfl
theorem s220_116 : WP 220 0 116 [a0, a1, vI x, a3, a4] S h Q ↔ WP 220 0 117 [a0, a1, vI x, a3, a4] (vI x :: S) h Q := wp_iload rfl rfl
theorem s220_117 : WP 220 0 117 [a0, a1, a2, vI x, a4] S h Q ↔ WP 220 0 118 [a0, a1, a2, vI x, a4] (vI x :: S) h Q := wp_iload rfl rfl
theorem s220_118 : WP 220 0 118 L (vI y :: vI x :: vA (some a) :: S) h Q ↔ (((hk h a).1 = 1 ∧ (0 ≤ x ∧ x < ((hk h a).2 : Int)) ∧ zNC ≤ a) ∧ WP 220 0 119 L S (hput h a x.toNat (vI y)) Q) := wp_if rfl rfl rfl
theorem s220_119 : WP 220 0 119 [vA r, a1, a2, a3, a4] S h Q ↔ WP 220 0 120 [vA r, a1, a2, a3, a4] (vA r :: S) h Q := wp_aload rfl rfl
theorem s220_120 : WP 220 0 120 [vA r, a1, a2, a3, a4] S h Q ↔ WP 220 0 121 [vA r, a1, a2, a3, a4] (vA r :: S) h Q := wp_aload rfl rfl
theorem s220_121 : WP 220 0 121 L (vA (some a) :: S) h Q ↔ (zhas 64 (hk h a) = true ∧ WP 220 0 124 L (hm h a 64 :: S) h Q) := wp_if rfl rfl rfl
theorem s220_124 : WP 220 0 124 [a0, a1, vI x, a3, a4] S h Q ↔ WP 220 0 125 [a0, a1, vI x, a3, a4] (vI x :: S) h Q := wp_iload rfl rfl
theorem s220_125 : WP 220 0 125 L S h Q ↔ WP 220 0 126 L (vI 1 :: S) h Q := wp_pl rfl rfl rfl
theorem s220_126 : WP 220 0 126 L (vI y :: vI x :: S) h Q ↔ WP 220 0 127 L (vI (wr (x + y)) :: S) h Q := wp_pl rfl rfl rfl
theorem s220_127 : WP 220 0 127 L (vI x1 :: vA r0 :: vA (some a) :: S) h Q ↔ ((hk h a).1 = 110 ∧ (zw S ≤ 8 ∧ WP 173 0 0 [vA (some a), vA r0, vI x1, vJ] [] h (zret 220 0 127 130 L S Q))) := wp_V1 (c := 110) rfl rfl (fun _ => rfl) rfl rfl (zcan_of rfl rfl) rfl rfl rfl
theorem s220_130 : WP 220 0 130 L (vI x :: S) h Q ↔ zif (x = 0) (WP 220 0 148 L S h Q) (WP 220 0 133 L S h Q) := wp_bE zc_eq rfl rfl rfl
theorem s220_133 : WP 220 0 133 [vA r, a1, a2, a3, a4] S h Q ↔ WP 220 0 134 [vA r, a1, a2, a3, a4] (vA r :: S) h Q := wp_aload rfl rfl
theorem s220_134 : WP 220 0 134 [a0, a1, vI x, a3, a4] S h Q ↔ WP 220 0 135 [a0, a1, vI x, a3, a4] (vI x :: S) h Q := wp_iload rfl rfl
theorem s220_135 : WP 220 0 135 L S h Q ↔ WP 220 0 136 L (vI 1 :: S) h Q := wp_pl rfl rfl rfl
theorem s220_136 : WP 220 0 136 L (vI y :: vI x :: S) h Q ↔ WP 220 0 137 L (vI (wr (x + y)) :: S) h Q := wp_pl rfl rfl rfl
theorem s220_137 : WP 220 0 137 [vA r, a1, a2, a3, a4] S h Q ↔ WP 220 0 138 [vA r, a1, a2, a3, a4] (vA r :: S) h Q := wp_aload rfl rfl
theorem s220_138 : WP 220 0 138 L (vA (some a) :: S) h Q ↔ (zhas 59 (hk h a) = true ∧ WP 220 0 141 L (hm h a 59 :: S) h Q) := wp_if rfl rfl rfl
theorem s220_141 : WP 220 0 141 L S h Q ↔ WP 220 0 142 L (vI 0 :: S) h Q := wp_pl rfl rfl rfl
theorem s220_142 : WP 220 0 142 L (vI x2 :: vI x1 :: vI x0 :: vA (some a) :: S) h Q ↔ ((hk h a).1 = 110 ∧ (zw S ≤ 8 ∧ WP 241 44 0 [vA (some a), vI x0, vI x1, vI x2, vJ] [] h (zret 220 0 142 145 L S Q))) := wp_V1 (c := 110) rfl rfl (fun _ => rfl) rfl rfl (zcan_of rfl rfl) rfl rfl rfl
theorem s220_145 : WP 220 0 145 L (vI x :: S) h Q ↔ zif (x = 0) (WP 220 0 152 L S h Q) (WP 220 0 148 L S h Q) := wp_bE zc_eq rfl rfl rfl
theorem s220_148 : WP 220 0 148 L S h Q ↔ WP 220 0 149 L (vI 1 :: S) h Q := wp_pl rfl rfl rfl
theorem s220_149 : WP 220 0 149 L S h Q ↔ WP 220 0 153 L S h Q := wp_pl rfl rfl rfl
theorem s220_152 : WP 220 0 152 L S h Q ↔ WP 220 0 153 L (vI 0 :: S) h Q := wp_pl rfl rfl rfl
theorem s220_153 : WP 220 0 153 [a0, a1, a2, a3, a4] (vI x :: S) h Q ↔ WP 220 0 155 [a0, a1, a2, a3, vI x] S h Q := wp_istore rfl rfl rfl
theorem s220_155 : WP 220 0 155 [vA r, a1, a2, a3, a4] S h Q ↔ WP 220 0 156 [vA r, a1, a2, a3, a4] (vA r :: S) h Q := wp_aload rfl rfl
theorem s220_156 : WP 220 0 156 L (vA (some a) :: S) h Q ↔ (zhas 67 (hk h a) = true ∧ WP 220 0 159 L (hm h a 67 :: S) h Q) := wp_if rfl rfl rfl
theorem s220_159 : WP 220 0 159 L (vI x :: S) h Q ↔ zif (x = 0) (WP 220 0 165 L S h Q) (WP 220 0 162 L S h Q) := wp_bE zc_eq rfl rfl rfl
theorem s220_162 : WP 220 0 162 L S h Q ↔ WP 220 0 164 L (vI (-2) :: S) h Q := wp_pl rfl rfl rfl
theorem s220_164 : WP 220 0 164 L [vI x] h Q ↔ Q (.inl (some (vI x))) h := wp_iret0 rfl rfl
theorem s220_165 : WP 220 0 165 [vA r, a1, a2, a3, a4] S h Q ↔ WP 220 0 166 [vA r, a1, a2, a3, a4] (vA r :: S) h Q := wp_aload rfl rfl
theorem s220_166 : WP 220 0 166 L (vA (some a) :: S) h Q ↔ (zhas 70 (hk h a) = true ∧ WP 220 0 169 L (hm h a 70 :: S) h Q) := wp_if rfl rfl rfl
theorem s220_169 : WP 220 0 169 L (vI x :: S) h Q ↔ zif (x = 0) (WP 220 0 172 L S h Q) (WP 220 0 175 L S h Q) := wp_bN zc_eq rfl rfl rfl
theorem s220_172 : WP 220 0 172 L S h Q ↔ WP 220 0 185 L S h Q := wp_pl rfl rfl rfl
theorem s220_175 : WP 220 0 175 [vA r, a1, a2, a3, a4] S h Q ↔ WP 220 0 176 [vA r, a1, a2, a3, a4] (vA r :: S) h Q := wp_aload rfl rfl
theorem s220_176 : WP 220 0 176 [vA r, a1, a2, a3, a4] S h Q ↔ WP 220 0 177 [vA r, a1, a2, a3, a4] (vA r :: S) h Q := wp_aload rfl rfl
theorem s220_177 : WP 220 0 177 L (vA (some a) :: S) h Q ↔ (zhas 59 (hk h a) = true ∧ WP 220 0 180 L (hm h a 59 :: S) h Q) := wp_if rfl rfl rfl
theorem s220_180 : WP 220 0 180 L (vI x0 :: vA (some a) :: S) h Q ↔ ((hk h a).1 = 110 ∧ (zw S ≤ 8 ∧ WP 143 0 0 [vA (some a), vI x0, vJ] [] h (zret 220 0 180 183 L S Q))) := wp_V1 (c := 110) rfl rfl (fun _ => rfl) rfl rfl (zcan_of rfl rfl) rfl rfl rfl
theorem s220_183 : WP 220 0 183 [a0, a1, vI x, a3, a4] S h Q ↔ WP 220 0 184 [a0, a1, vI x, a3, a4] (vI x :: S) h Q := wp_iload rfl rfl
theorem s220_184 : WP 220 0 184 L [vI x] h Q ↔ Q (.inl (some (vI x))) h := wp_iret0 rfl rfl
theorem s220_185 : WP 220 0 185 [a0, a1, a2, vI x, a4] S h Q ↔ WP 220 0 188 [a0, a1, a2, vI (wr (x + 1)), a4] S h Q := wp_iinc rfl rfl rfl
theorem s220_188 : WP 220 0 188 L S h Q ↔ WP 220 0 74 L S h Q := wp_pl rfl rfl rfl
theorem s220_191 : WP 220 0 191 [a0, a1, vI x, a3, a4] S h Q ↔ WP 220 0 194 [a0, a1, vI (wr (x + (-1))), a3, a4] S h Q := wp_iinc rfl rfl rfl
theorem s220_194 : WP 220 0 194 L S h Q ↔ WP 220 0 57 L S h Q := wp_pl rfl rfl rfl
theorem s220_197 : WP 220 0 197 L S h Q ↔ WP 220 0 198 L (vI (-1) :: S) h Q := wp_pl rfl rfl rfl
theorem s220_198 : WP 220 0 198 L [vI x] h Q ↔ Q (.inl (some (vI x))) h := wp_iret0 rfl rfl
/-! RepeatFreeModel.nextSizes(II)Z -/
theorem s221_0 : WP 221 0 0 L S h Q ↔ WP 221 0 1 L (vI 2 :: S) h Q := wp_pl rfl rfl rfl
theorem s221_1 : WP 221 0 1 [a0, a1, a2, a3] (vI x :: S) h Q ↔ WP 221 0 2 [a0, a1, a2, vI x] S h Q := wp_istore rfl rfl rfl
theorem s221_2 : WP 221 0 2 [a0, a1, a2, vI x] S h Q ↔ WP 221 0 3 [a0, a1, a2, vI x] (vI x :: S) h Q := wp_iload rfl rfl
theorem s221_3 : WP 221 0 3 L (vI x :: S) h Q ↔ zif (x < 0) (WP 221 0 52 L S h Q) (WP 221 0 6 L S h Q) := wp_bE zc_lt rfl rfl rfl
theorem s221_6 : WP 221 0 6 [vA r, a1, a2, a3] S h Q ↔ WP 221 0 7 [vA r, a1, a2, a3] (vA r :: S) h Q := wp_aload rfl rfl
theorem s221_7 : WP 221 0 7 [a0, vI x, a2, a3] S h Q ↔ WP 221 0 8 [a0, vI x, a2, a3] (vI x :: S) h Q := wp_iload rfl rfl
theorem s221_8 : WP 221 0 8 [a0, a1, a2, vI x] S h Q ↔ WP 221 0 9 [a0, a1, a2, vI x] (vI x :: S) h Q := wp_iload rfl rfl
theorem s221_9 : WP 221 0 9 L (vI x1 :: vI x0 :: vA (some a) :: S) h Q ↔ ((hk h a).1 = 110 ∧ (zw S ≤ 8 ∧ WP 178 0 0 [vA (some a), vI x0, vI x1, vJ] [] h (zret 221 0 9 12 L S Q))) := wp_V1 (c := 110) rfl rfl (fun _ => rfl) rfl rfl (zcan_of rfl rfl) rfl rfl rfl
theorem s221_12 : WP 221 0 12 L (vI x :: S) h Q ↔ zif (x = 0) (WP 221 0 15 L S h Q) (WP 221 0 18 L S h Q) := wp_bN zc_eq rfl rfl rfl
theorem s221_15 : WP 221 0 15 L S h Q ↔ WP 221 0 46 L S h Q := wp_pl rfl rfl rfl
theorem s221_18 : WP 221 0 18 [vA r, a1, a2, a3] S h Q ↔ WP 221 0 19 [vA r, a1, a2, a3] (vA r :: S) h Q := wp_aload rfl rfl
theorem s221_19 : WP 221 0 19 L (vA (some a) :: S) h Q ↔ (zhas 62 (hk h a) = true ∧ WP 221 0 22 L (hm h a 62 :: S) h Q) := wp_if rfl rfl rfl
theorem s221_22 : WP 221 0 22 [a0, a1, a2, vI x] S h Q ↔ WP 221 0 23 [a0, a1, a2, vI x] (vI x :: S) h Q := wp_iload rfl rfl
theorem s221_23 : WP 221 0 23 L (vI y :: vA r :: S) h Q ↔ WP 221 0 24 L (vI y :: vA r :: vI y :: vA r :: S) h Q := wp_pl rfl rfl rfl
theorem s221_23l : WP 221 0 23 L (vL x :: S) h Q ↔ WP 221 0 24 L (vL x :: vL x :: S) h Q := wp_pl rfl rfl rfl
theorem s221_24 : WP 221 0 24 L (vI x :: vA (some a) :: S) h Q ↔ (((hk h a).1 = 1 ∧ 0 ≤ x ∧ x < ((hk h a).2 : Int)) ∧ WP 221 0 25 L (hm h a x.toNat :: S) h Q) := wp_if rfl rfl rfl
theorem s221_25 : WP 221 0 25 L S h Q ↔ WP 221 0 26 L (vI 1 :: S) h Q := wp_pl rfl rfl rfl
theorem s221_26 : WP 221 0 26 L (vI y :: vI x :: S) h Q ↔ WP 221 0 27 L (vI (wr (x + y)) :: S) h Q := wp_pl rfl rfl rfl
theorem s221_27 : WP 221 0 27 L (vI y :: vI x :: vA (some a) :: S) h Q ↔ (((hk h a).1 = 1 ∧ (0 ≤ x ∧ x < ((hk h a).2 : Int)) ∧ zNC ≤ a) ∧ WP 221 0 28 L S (hput h a x.toNat (vI y)) Q) := wp_if rfl rfl rfl
theorem s221_28 : WP 221 0 28 [vA r, a1, a2, a3] S h Q ↔ WP 221 0 29 [vA r, a1, a2, a3] (vA r :: S) h Q := wp_aload rfl rfl
theorem s221_29 : WP 221 0 29 [a0, vI x, a2, a3] S h Q ↔ WP 221 0 30 [a0, vI x, a2, a3] (vI x :: S) h Q := wp_iload rfl rfl
theorem s221_30 : WP 221 0 30 L (vI x0 :: vA (some a) :: S) h Q ↔ ((hk h a).1 = 110 ∧ (zw S ≤ 8 ∧ WP 209 0 0 [vA (some a), vI x0, vJ, vJ] [] h (zret 221 0 30 33 L S Q))) := wp_V1 (c := 110) rfl rfl (fun _ => rfl) rfl rfl (zcan_of rfl rfl) rfl rfl rfl
theorem s221_33 : WP 221 0 33 [a0, a1, vI x, a3] S h Q ↔ WP 221 0 34 [a0, a1, vI x, a3] (vI x :: S) h Q := wp_iload rfl rfl
theorem s221_34 : WP 221 0 34 L (vI y :: vI x :: S) h Q ↔ zif (y < x) (WP 221 0 39 L S h Q) (WP 221 0 37 L S h Q) := wp_bE zc_gt rfl rfl rfl
theorem s221_37 : WP 221 0 37 L S h Q ↔ WP 221 0 38 L (vI 1 :: S) h Q := wp_pl rfl rfl rfl
theorem s221_38 : WP 221 0 38 L [vI x] h Q ↔ ((x = 0 ∨ x = 1) ∧ Q (.inl (some (vI x))) h) := wp_iret rfl rfl
theorem s221_39 : WP 221 0 39 [vA r, a1, a2, a3] S h Q ↔ WP 221 0 40 [vA r, a1, a2, a3] (vA r :: S) h Q := wp_aload rfl rfl
theorem s221_40 : WP 221 0 40 L (vA (some a) :: S) h Q ↔ (zhas 62 (hk h a) = true ∧ WP 221 0 43 L (hm h a 62 :: S) h Q) := wp_if rfl rfl rfl
theorem s221_43 : WP 221 0 43 [a0, a1, a2, vI x] S h Q ↔ WP 221 0 44 [a0, a1, a2, vI x] (vI x :: S) h Q := wp_iload rfl rfl
theorem s221_44 : WP 221 0 44 L S h Q ↔ WP 221 0 45 L (vI 1 :: S) h Q := wp_pl rfl rfl rfl
theorem s221_45 : WP 221 0 45 L (vI y :: vI x :: vA (some a) :: S) h Q ↔ (((hk h a).1 = 1 ∧ (0 ≤ x ∧ x < ((hk h a).2 : Int)) ∧ zNC ≤ a) ∧ WP 221 0 46 L S (hput h a x.toNat (vI y)) Q) := wp_if rfl rfl rfl
theorem s221_46 : WP 221 0 46 [a0, a1, a2, vI x] S h Q ↔ WP 221 0 49 [a0, a1, a2, vI (wr (x + (-1)))] S h Q := wp_iinc rfl rfl rfl
theorem s221_49 : WP 221 0 49 L S h Q ↔ WP 221 0 2 L S h Q := wp_pl rfl rfl rfl
theorem s221_52 : WP 221 0 52 L S h Q ↔ WP 221 0 53 L (vI 0 :: S) h Q := wp_pl rfl rfl rfl
theorem s221_53 : WP 221 0 53 L [vI x] h Q ↔ ((x = 0 ∨ x = 1) ∧ Q (.inl (some (vI x))) h) := wp_iret rfl rfl
/-! RepeatFreeModel.noLetter(II)Z -/
theorem s222_0 : WP 222 0 0 [vA r, a1, a2] S h Q ↔ WP 222 0 1 [vA r, a1, a2] (vA r :: S) h Q := wp_aload rfl rfl
theorem s222_1 : WP 222 0 1 [a0, vI x, a2] S h Q ↔ WP 222 0 2 [a0, vI x, a2] (vI x :: S) h Q := wp_iload rfl rfl
theorem s222_2 : WP 222 0 2 L S h Q ↔ WP 222 0 3 L (vI 0 :: S) h Q := wp_pl rfl rfl rfl
theorem s222_3 : WP 222 0 3 [vA r, a1, a2] S h Q ↔ WP 222 0 4 [vA r, a1, a2] (vA r :: S) h Q := wp_aload rfl rfl
theorem s222_4 : WP 222 0 4 L (vA (some a) :: S) h Q ↔ (zhas 54 (hk h a) = true ∧ WP 222 0 7 L (hm h a 54 :: S) h Q) := wp_if rfl rfl rfl
theorem s222_7 : WP 222 0 7 L S h Q ↔ WP 222 0 8 L (vI 0 :: S) h Q := wp_pl rfl rfl rfl
theorem s222_8 : WP 222 0 8 L (vI x :: vA (some a) :: S) h Q ↔ (((hk h a).1 = 1 ∧ 0 ≤ x ∧ x < ((hk h a).2 : Int)) ∧ WP 222 0 9 L (hm h a x.toNat :: S) h Q) := wp_if rfl rfl rfl
theorem s222_9 : WP 222 0 9 L S h Q ↔ WP 222 0 10 L (vI 1 :: S) h Q := wp_pl rfl rfl rfl
theorem s222_10 : WP 222 0 10 L (vI y :: vI x :: S) h Q ↔ WP 222 0 11 L (vI (wr (x - y)) :: S) h Q := wp_pl rfl rfl rfl
theorem s222_11 : WP 222 0 11 L (vI x2 :: vI x1 :: vI x0 :: S) h Q ↔ (zw S ≤ 8 ∧ WP 183 0 0 [vI x0, vI x1, vI x2] [] h (zret 222 0 11 14 L S Q)) := wp_S rfl rfl (zcan_of rfl rfl) rfl rfl rfl
theorem s222_14 : WP 222 0 14 L (vI x :: S) h Q ↔ zif (x = 0) (WP 222 0 17 L S h Q) (WP 222 0 21 L S h Q) := wp_bN zc_eq rfl rfl rfl
theorem s222_17 : WP 222 0 17 L S h Q ↔ WP 222 0 18 L (vI 1 :: S) h Q := wp_pl rfl rfl rfl
theorem s222_18 : WP 222 0 18 L S h Q ↔ WP 222 0 22 L S h Q := wp_pl rfl rfl rfl
theorem s222_21 : WP 222 0 21 L S h Q ↔ WP 222 0 22 L (vI 0 :: S) h Q := wp_pl rfl rfl rfl
theorem s222_22 : WP 222 0 22 [a0, a1, vI x] S h Q ↔ WP 222 0 23 [a0, a1, vI x] (vI x :: S) h Q := wp_iload rfl rfl
theorem s222_23 : WP 222 0 23 L (vI x1 :: vI x0 :: vA (some a) :: S) h Q ↔ ((hk h a).1 = 110 ∧ (zw S ≤ 8 ∧ WP 248 0 0 [vA (some a), vI x0, vI x1] [] h (zret 222 0 23 26 L S Q))) := wp_V1 (c := 110) rfl rfl (fun _ => rfl) rfl rfl (zcan_of rfl rfl) rfl rfl rfl
theorem s222_26 : WP 222 0 26 L [vI x] h Q ↔ ((x = 0 ∨ x = 1) ∧ Q (.inl (some (vI x))) h) := wp_iret rfl rfl
/-! RepeatFreeModel.noMap(I)Z -/
theorem s223_0 : WP 223 0 0 [vA r, a1] S h Q ↔ WP 223 0 1 [vA r, a1] (vA r :: S) h Q := wp_aload rfl rfl
theorem s223_1 : WP 223 0 1 [a0, vI x] S h Q ↔ WP 223 0 2 [a0, vI x] (vI x :: S) h Q := wp_iload rfl rfl
theorem s223_2 : WP 223 0 2 L S h Q ↔ WP 223 0 3 L (vI 0 :: S) h Q := wp_pl rfl rfl rfl
theorem s223_3 : WP 223 0 3 [vA r, a1] S h Q ↔ WP 223 0 4 [vA r, a1] (vA r :: S) h Q := wp_aload rfl rfl
theorem s223_4 : WP 223 0 4 L (vA (some a) :: S) h Q ↔ (zhas 54 (hk h a) = true ∧ WP 223 0 7 L (hm h a 54 :: S) h Q) := wp_if rfl rfl rfl
theorem s223_7 : WP 223 0 7 L S h Q ↔ WP 223 0 8 L (vI 4 :: S) h Q := wp_pl rfl rfl rfl
theorem s223_8 : WP 223 0 8 L (vI x :: vA (some a) :: S) h Q ↔ (((hk h a).1 = 1 ∧ 0 ≤ x ∧ x < ((hk h a).2 : Int)) ∧ WP 223 0 9 L (hm h a x.toNat :: S) h Q) := wp_if rfl rfl rfl
theorem s223_9 : WP 223 0 9 L S h Q ↔ WP 223 0 10 L (vI 1 :: S) h Q := wp_pl rfl rfl rfl
theorem s223_10 : WP 223 0 10 L (vI y :: vI x :: S) h Q ↔ WP 223 0 11 L (vI (wr (x - y)) :: S) h Q := wp_pl rfl rfl rfl
theorem s223_11 : WP 223 0 11 L (vI x2 :: vI x1 :: vI x0 :: S) h Q ↔ (zw S ≤ 8 ∧ WP 183 0 0 [vI x0, vI x1, vI x2] [] h (zret 223 0 11 14 L S Q)) := wp_S rfl rfl (zcan_of rfl rfl) rfl rfl rfl
theorem s223_14 : WP 223 0 14 L (vI x :: S) h Q ↔ zif (x = 0) (WP 223 0 17 L S h Q) (WP 223 0 21 L S h Q) := wp_bN zc_eq rfl rfl rfl
theorem s223_17 : WP 223 0 17 L S h Q ↔ WP 223 0 18 L (vI 1 :: S) h Q := wp_pl rfl rfl rfl
theorem s223_18 : WP 223 0 18 L S h Q ↔ WP 223 0 22 L S h Q := wp_pl rfl rfl rfl
theorem s223_21 : WP 223 0 21 L S h Q ↔ WP 223 0 22 L (vI 0 :: S) h Q := wp_pl rfl rfl rfl
theorem s223_22 : WP 223 0 22 L S h Q ↔ WP 223 0 23 L (vI 1 :: S) h Q := wp_pl rfl rfl rfl
theorem s223_23 : WP 223 0 23 L (vI x1 :: vI x0 :: vA (some a) :: S) h Q ↔ ((hk h a).1 = 110 ∧ (zw S ≤ 8 ∧ WP 248 0 0 [vA (some a), vI x0, vI x1] [] h (zret 223 0 23 26 L S Q))) := wp_V1 (c := 110) rfl rfl (fun _ => rfl) rfl rfl (zcan_of rfl rfl) rfl rfl rfl
theorem s223_26 : WP 223 0 26 L [vI x] h Q ↔ ((x = 0 ∨ x = 1) ∧ Q (.inl (some (vI x))) h) := wp_iret rfl rfl
/-! RepeatFreeModel.noPattern(I)Z -/
theorem s224_0 : WP 224 0 0 [vA r, a1] S h Q ↔ WP 224 0 1 [vA r, a1] (vA r :: S) h Q := wp_aload rfl rfl
theorem s224_1 : WP 224 0 1 [a0, vI x] S h Q ↔ WP 224 0 2 [a0, vI x] (vI x :: S) h Q := wp_iload rfl rfl
theorem s224_2 : WP 224 0 2 L S h Q ↔ WP 224 0 3 L (vI 0 :: S) h Q := wp_pl rfl rfl rfl
theorem s224_3 : WP 224 0 3 [vA r, a1] S h Q ↔ WP 224 0 4 [vA r, a1] (vA r :: S) h Q := wp_aload rfl rfl
theorem s224_4 : WP 224 0 4 L (vA (some a) :: S) h Q ↔ (zhas 54 (hk h a) = true ∧ WP 224 0 7 L (hm h a 54 :: S) h Q) := wp_if rfl rfl rfl
theorem s224_7 : WP 224 0 7 L S h Q ↔ WP 224 0 8 L (vI 5 :: S) h Q := wp_pl rfl rfl rfl
theorem s224_8 : WP 224 0 8 L (vI x :: vA (some a) :: S) h Q ↔ (((hk h a).1 = 1 ∧ 0 ≤ x ∧ x < ((hk h a).2 : Int)) ∧ WP 224 0 9 L (hm h a x.toNat :: S) h Q) := wp_if rfl rfl rfl
theorem s224_9 : WP 224 0 9 L S h Q ↔ WP 224 0 10 L (vI 1 :: S) h Q := wp_pl rfl rfl rfl
theorem s224_10 : WP 224 0 10 L (vI y :: vI x :: S) h Q ↔ WP 224 0 11 L (vI (wr (x - y)) :: S) h Q := wp_pl rfl rfl rfl
theorem s224_11 : WP 224 0 11 L (vI x2 :: vI x1 :: vI x0 :: S) h Q ↔ (zw S ≤ 8 ∧ WP 183 0 0 [vI x0, vI x1, vI x2] [] h (zret 224 0 11 14 L S Q)) := wp_S rfl rfl (zcan_of rfl rfl) rfl rfl rfl
theorem s224_14 : WP 224 0 14 L (vI x :: S) h Q ↔ zif (x = 0) (WP 224 0 17 L S h Q) (WP 224 0 21 L S h Q) := wp_bN zc_eq rfl rfl rfl
theorem s224_17 : WP 224 0 17 L S h Q ↔ WP 224 0 18 L (vI 1 :: S) h Q := wp_pl rfl rfl rfl
theorem s224_18 : WP 224 0 18 L S h Q ↔ WP 224 0 22 L S h Q := wp_pl rfl rfl rfl
theorem s224_21 : WP 224 0 21 L S h Q ↔ WP 224 0 22 L (vI 0 :: S) h Q := wp_pl rfl rfl rfl
theorem s224_22 : WP 224 0 22 L S h Q ↔ WP 224 0 23 L (vI 1 :: S) h Q := wp_pl rfl rfl rfl
theorem s224_23 : WP 224 0 23 L (vI x1 :: vI x0 :: vA (some a) :: S) h Q ↔ ((hk h a).1 = 110 ∧ (zw S ≤ 8 ∧ WP 248 0 0 [vA (some a), vI x0, vI x1] [] h (zret 224 0 23 26 L S Q))) := wp_V1 (c := 110) rfl rfl (fun _ => rfl) rfl rfl (zcan_of rfl rfl) rfl rfl rfl
theorem s224_26 : WP 224 0 26 L [vI x] h Q ↔ ((x = 0 ∨ x = 1) ∧ Q (.inl (some (vI x))) h) := wp_iret rfl rfl
/-! RepeatFreeModel.noPower(III)Z -/
theorem s225_0 : WP 225 0 0 [vA r, a1, a2, a3] S h Q ↔ WP 225 0 1 [vA r, a1, a2, a3] (vA r :: S) h Q := wp_aload rfl rfl
theorem s225_1 : WP 225 0 1 [a0, vI x, a2, a3] S h Q ↔ WP 225 0 2 [a0, vI x, a2, a3] (vI x :: S) h Q := wp_iload rfl rfl
theorem s225_2 : WP 225 0 2 L (vI x0 :: vA (some a) :: S) h Q ↔ ((hk h a).1 = 110 ∧ (zw S ≤ 8 ∧ WP 223 0 0 [vA (some a), vI x0] [] h (zret 225 0 2 5 L S Q))) := wp_V1 (c := 110) rfl rfl (fun _ => rfl) rfl rfl (zcan_of rfl rfl) rfl rfl rfl
theorem s225_5 : WP 225 0 5 L (vI x :: S) h Q ↔ zif (x = 0) (WP 225 0 8 L S h Q) (WP 225 0 40 L S h Q) := wp_bN zc_eq rfl rfl rfl
theorem s225_8 : WP 225 0 8 [vA r, a1, a2, a3] S h Q ↔ WP 225 0 9 [vA r, a1, a2, a3] (vA r :: S) h Q := wp_aload rfl rfl
theorem s225_9 : WP 225 0 9 [a0, a1, vI x, a3] S h Q ↔ WP 225 0 10 [a0, a1, vI x, a3] (vI x :: S) h Q := wp_iload rfl rfl
theorem s225_10 : WP 225 0 10 L S h Q ↔ WP 225 0 11 L (vI 2 :: S) h Q := wp_pl rfl rfl rfl
theorem s225_11 : WP 225 0 11 L (vI x1 :: vI x0 :: vA (some a) :: S) h Q ↔ ((hk h a).1 = 110 ∧ (zw S ≤ 8 ∧ WP 222 0 0 [vA (some a), vI x0, vI x1] [] h (zret 225 0 11 14 L S Q))) := wp_V1 (c := 110) rfl rfl (fun _ => rfl) rfl rfl (zcan_of rfl rfl) rfl rfl rfl
theorem s225_14 : WP 225 0 14 L (vI x :: S) h Q ↔ zif (x = 0) (WP 225 0 17 L S h Q) (WP 225 0 40 L S h Q) := wp_bN zc_eq rfl rfl rfl
theorem s225_17 : WP 225 0 17 [vA r, a1, a2, a3] S h Q ↔ WP 225 0 18 [vA r, a1, a2, a3] (vA r :: S) h Q := wp_aload rfl rfl
theorem s225_18 : WP 225 0 18 [a0, a1, a2, vI x] S h Q ↔ WP 225 0 19 [a0, a1, a2, vI x] (vI x :: S) h Q := wp_iload rfl rfl
theorem s225_19 : WP 225 0 19 L S h Q ↔ WP 225 0 20 L (vI 0 :: S) h Q := wp_pl rfl rfl rfl
theorem s225_20 : WP 225 0 20 L S h Q ↔ WP 225 0 22 L (vI 12 :: S) h Q := wp_pl rfl rfl rfl
theorem s225_22 : WP 225 0 22 L (vI x2 :: vI x1 :: vI x0 :: S) h Q ↔ (zw S ≤ 8 ∧ WP 183 0 0 [vI x0, vI x1, vI x2] [] h (zret 225 0 22 25 L S Q)) := wp_S rfl rfl (zcan_of rfl rfl) rfl rfl rfl
theorem s225_25 : WP 225 0 25 L (vI x :: S) h Q ↔ zif (x = 0) (WP 225 0 28 L S h Q) (WP 225 0 32 L S h Q) := wp_bN zc_eq rfl rfl rfl
theorem s225_28 : WP 225 0 28 L S h Q ↔ WP 225 0 29 L (vI 1 :: S) h Q := wp_pl rfl rfl rfl
theorem s225_29 : WP 225 0 29 L S h Q ↔ WP 225 0 33 L S h Q := wp_pl rfl rfl rfl
theorem s225_32 : WP 225 0 32 L S h Q ↔ WP 225 0 33 L (vI 0 :: S) h Q := wp_pl rfl rfl rfl
theorem s225_33 : WP 225 0 33 L S h Q ↔ WP 225 0 34 L (vI 2 :: S) h Q := wp_pl rfl rfl rfl
theorem s225_34 : WP 225 0 34 L (vI x1 :: vI x0 :: vA (some a) :: S) h Q ↔ ((hk h a).1 = 110 ∧ (zw S ≤ 8 ∧ WP 248 0 0 [vA (some a), vI x0, vI x1] [] h (zret 225 0 34 37 L S Q))) := wp_V1 (c := 110) rfl rfl (fun _ => rfl) rfl rfl (zcan_of rfl rfl) rfl rfl rfl
theorem s225_37 : WP 225 0 37 L (vI x :: S) h Q ↔ zif (x = 0) (WP 225 0 44 L S h Q) (WP 225 0 40 L S h Q) := wp_bE zc_eq rfl rfl rfl
theorem s225_40 : WP 225 0 40 L S h Q ↔ WP 225 0 41 L (vI 1 :: S) h Q := wp_pl rfl rfl rfl
theorem s225_41 : WP 225 0 41 L S h Q ↔ WP 225 0 45 L S h Q := wp_pl rfl rfl rfl
theorem s225_44 : WP 225 0 44 L S h Q ↔ WP 225 0 45 L (vI 0 :: S) h Q := wp_pl rfl rfl rfl
theorem s225_45 : WP 225 0 45 L [vI x] h Q ↔ ((x = 0 ∨ x = 1) ∧ Q (.inl (some (vI x))) h) := wp_iret rfl rfl
/-! RepeatFreeModel.nth(II)I -/
theorem s226_0 : WP 226 0 0 [vA r, a1, a2, a3] S h Q ↔ WP 226 0 1 [vA r, a1, a2, a3] (vA r :: S) h Q := wp_aload rfl rfl
theorem s226_1 : WP 226 0 1 L S h Q ↔ WP 226 0 2 L (vI 0 :: S) h Q := wp_pl rfl rfl rfl
theorem s226_2 : WP 226 0 2 L (vI x :: vA (some a) :: S) h Q ↔ ((zNC ≤ a ∧ zhas 45 (hk h a) = true) ∧ WP 226 0 5 L S (hput h a 45 (vI x)) Q) := wp_put0 rfl rfl
theorem s226_5 : WP 226 0 5 [vA r, a1, a2, a3] S h Q ↔ WP 226 0 6 [vA r, a1, a2, a3] (vA r :: S) h Q := wp_aload rfl rfl
theorem s226_6 : WP 226 0 6 [a0, vI x, a2, a3] S h Q ↔ WP 226 0 7 [a0, vI x, a2, a3] (vI x :: S) h Q := wp_iload rfl rfl
theorem s226_7 : WP 226 0 7 L S h Q ↔ WP 226 0 8 L (vI 1 :: S) h Q := wp_pl rfl rfl rfl
theorem s226_8 : WP 226 0 8 L S h Q ↔ WP 226 0 10 L (vI 40 :: S) h Q := wp_pl rfl rfl rfl
theorem s226_10 : WP 226 0 10 L (vI x2 :: vI x1 :: vI x0 :: S) h Q ↔ (zw S ≤ 8 ∧ WP 183 0 0 [vI x0, vI x1, vI x2] [] h (zret 226 0 10 13 L S Q)) := wp_S rfl rfl (zcan_of rfl rfl) rfl rfl rfl
theorem s226_13 : WP 226 0 13 L (vI x :: S) h Q ↔ zif (x = 0) (WP 226 0 20 L S h Q) (WP 226 0 16 L S h Q) := wp_bE zc_eq rfl rfl rfl
theorem s226_16 : WP 226 0 16 [a0, a1, vI x, a3] S h Q ↔ WP 226 0 17 [a0, a1, vI x, a3] (vI x :: S) h Q := wp_iload rfl rfl
theorem s226_17 : WP 226 0 17 L (vI x :: S) h Q ↔ zif (x < 0) (WP 226 0 20 L S h Q) (WP 226 0 24 L S h Q) := wp_bN zc_lt rfl rfl rfl
theorem s226_20 : WP 226 0 20 L S h Q ↔ WP 226 0 21 L (vI 1 :: S) h Q := wp_pl rfl rfl rfl
theorem s226_21 : WP 226 0 21 L S h Q ↔ WP 226 0 25 L S h Q := wp_pl rfl rfl rfl
theorem s226_24 : WP 226 0 24 L S h Q ↔ WP 226 0 25 L (vI 0 :: S) h Q := wp_pl rfl rfl rfl
theorem s226_25 : WP 226 0 25 L S h Q ↔ WP 226 0 26 L (vI 1 :: S) h Q := wp_pl rfl rfl rfl
theorem s226_26 : WP 226 0 26 L (vI x1 :: vI x0 :: vA (some a) :: S) h Q ↔ ((hk h a).1 = 110 ∧ (zw S ≤ 8 ∧ WP 248 0 0 [vA (some a), vI x0, vI x1] [] h (zret 226 0 26 29 L S Q))) := wp_V1 (c := 110) rfl rfl (fun _ => rfl) rfl rfl (zcan_of rfl rfl) rfl rfl rfl
theorem s226_29 : WP 226 0 29 L (vI x :: S) h Q ↔ zif (x = 0) (WP 226 0 34 L S h Q) (WP 226 0 32 L S h Q) := wp_bE zc_eq rfl rfl rfl
theorem s226_32 : WP 226 0 32 L S h Q ↔ WP 226 0 33 L (vI 0 :: S) h Q := wp_pl rfl rfl rfl
theorem s226_33 : WP 226 0 33 L [vI x] h Q ↔ Q (.inl (some (vI x))) h := wp_iret0 rfl rfl
theorem s226_34 : WP 226 0 34 [vA r, a1, a2, a3] S h Q ↔ WP 226 0 35 [vA r, a1, a2, a3] (vA r :: S) h Q := wp_aload rfl rfl
theorem s226_35 : WP 226 0 35 L (vA (some a) :: S) h Q ↔ ((hk h a).1 = 110 ∧ (zw S ≤ 8 ∧ WP 243 0 0 [vA (some a)] [] h (zret 226 0 35 38 L S Q))) := wp_V1 (c := 110) rfl rfl (fun _ => rfl) rfl rfl (zcan_of rfl rfl) rfl rfl rfl
theorem s226_38 : WP 226 0 38 [vA r, a1, a2, a3] S h Q ↔ WP 226 0 39 [vA r, a1, a2, a3] (vA r :: S) h Q := wp_aload rfl rfl
theorem s226_39 : WP 226 0 39 [a0, a1, vI x, a3] S h Q ↔ WP 226 0 40 [a0, a1, vI x, a3] (vI x :: S) h Q := wp_iload rfl rfl
theorem s226_40 : WP 226 0 40 L (vI x :: vA (some a) :: S) h Q ↔ ((zNC ≤ a ∧ zhas 68 (hk h a) = true) ∧ WP 226 0 43 L S (hput h a 68 (vI x)) Q) := wp_put0 rfl rfl
theorem s226_43 : WP 226 0 43 [vA r, a1, a2, a3] S h Q ↔ WP 226 0 44 [vA r, a1, a2, a3] (vA r :: S) h Q := wp_aload rfl rfl
theorem s226_44 : WP 226 0 44 L S h Q ↔ WP 226 0 45 L (vI 0 :: S) h Q := wp_pl rfl rfl rfl
theorem s226_45 : WP 226 0 45 [a0, vI x, a2, a3] S h Q ↔ WP 226 0 46 [a0, vI x, a2, a3] (vI x :: S) h Q := wp_iload rfl rfl
theorem s226_46 : WP 226 0 46 L S h Q ↔ WP 226 0 47 L (vI 4 :: S) h Q := wp_pl rfl rfl rfl
theorem s226_47 : WP 226 0 47 L (vI x2 :: vI x1 :: vI x0 :: vA (some a) :: S) h Q ↔ ((hk h a).1 = 110 ∧ (zw S ≤ 8 ∧ WP 241 44 0 [vA (some a), vI x0, vI x1, vI x2, vJ] [] h (zret 226 0 47 50 L S Q))) := wp_V1 (c := 110) rfl rfl (fun _ => rfl) rfl rfl (zcan_of rfl rfl) rfl rfl rfl
theorem s226_50 : WP 226 0 50 [a0, a1, a2, a3] (vI x :: S) h Q ↔ WP 226 0 51 [a0, a1, a2, vI x] S h Q := wp_istore rfl rfl rfl
theorem s226_51 : WP 226 0 51 [vA r, a1, a2, a3] S h Q ↔ WP 226 0 52 [vA r, a1, a2, a3] (vA r :: S) h Q := wp_aload rfl rfl
theorem s226_52 : WP 226 0 52 L (vA (some a) :: S) h Q ↔ (zhas 67 (hk h a) = true ∧ WP 226 0 55 L (hm h a 67 :: S) h Q) := wp_if rfl rfl rfl
theorem s226_55 : WP 226 0 55 L (vI x :: S) h Q ↔ zif (x = 0) (WP 226 0 61 L S h Q) (WP 226 0 58 L S h Q) := wp_bE zc_eq rfl rfl rfl
theorem s226_58 : WP 226 0 58 L S h Q ↔ WP 226 0 60 L (vI (-2) :: S) h Q := wp_pl rfl rfl rfl
theorem s226_60 : WP 226 0 60 L [vI x] h Q ↔ Q (.inl (some (vI x))) h := wp_iret0 rfl rfl
theorem s226_61 : WP 226 0 61 [vA r, a1, a2, a3] S h Q ↔ WP 226 0 62 [vA r, a1, a2, a3] (vA r :: S) h Q := wp_aload rfl rfl
theorem s226_62 : WP 226 0 62 L (vA (some a) :: S) h Q ↔ (zhas 70 (hk h a) = true ∧ WP 226 0 65 L (hm h a 70 :: S) h Q) := wp_if rfl rfl rfl
theorem s226_65 : WP 226 0 65 L (vI x :: S) h Q ↔ zif (x = 0) (WP 226 0 68 L S h Q) (WP 226 0 70 L S h Q) := wp_bN zc_eq rfl rfl rfl
theorem s226_68 : WP 226 0 68 L S h Q ↔ WP 226 0 69 L (vI (-1) :: S) h Q := wp_pl rfl rfl rfl
theorem s226_69 : WP 226 0 69 L [vI x] h Q ↔ Q (.inl (some (vI x))) h := wp_iret0 rfl rfl
theorem s226_70 : WP 226 0 70 [vA r, a1, a2, a3] S h Q ↔ WP 226 0 71 [vA r, a1, a2, a3] (vA r :: S) h Q := wp_aload rfl rfl
theorem s226_71 : WP 226 0 71 [a0, vI x, a2, a3] S h Q ↔ WP 226 0 72 [a0, vI x, a2, a3] (vI x :: S) h Q := wp_iload rfl rfl
theorem s226_72 : WP 226 0 72 L (vI x0 :: vA (some a) :: S) h Q ↔ ((hk h a).1 = 110 ∧ (zw S ≤ 8 ∧ WP 143 0 0 [vA (some a), vI x0, vJ] [] h (zret 226 0 72 75 L S Q))) := wp_V1 (c := 110) rfl rfl (fun _ => rfl) rfl rfl (zcan_of rfl rfl) rfl rfl rfl
theorem s226_75 : WP 226 0 75 [vA r, a1, a2, a3] S h Q ↔ WP 226 0 76 [vA r, a1, a2, a3] (vA r :: S) h Q := wp_aload rfl rfl
theorem s226_76 : WP 226 0 76 L (vA (some a) :: S) h Q ↔ (zhas 65 (hk h a) = true ∧ WP 226 0 79 L (hm h a 65 :: S) h Q) := wp_if rfl rfl rfl
theorem s226_79 : WP 226 0 79 L [vI x] h Q ↔ Q (.inl (some (vI x))) h := wp_iret0 rfl rfl
/-! RepeatFreeModel.number(II)I -/
theorem s227_0 : WP 227 0 0 [vA r, a1, a2, a3, a4] S h Q ↔ WP 227 0 1 [vA r, a1, a2, a3, a4] (vA r :: S) h Q := wp_aload rfl rfl
theorem s227_1 : WP 227 0 1 L (vA (some a) :: S) h Q ↔ ((hk h a).1 = 110 ∧ (zw S ≤ 8 ∧ WP 177 0 0 [vA (some a)] [] h (zret 227 0 1 4 L S Q))) := wp_V1 (c := 110) rfl rfl (fun _ => rfl) rfl rfl (zcan_of rfl rfl) rfl rfl rfl
theorem s227_4 : WP 227 0 4 L (vI x :: S) h Q ↔ zif (x = 0) (WP 227 0 9 L S h Q) (WP 227 0 7 L S h Q) := wp_bE zc_eq rfl rfl rfl
theorem s227_7 : WP 227 0 7 [a0, vI x, a2, a3, a4] S h Q ↔ WP 227 0 8 [a0, vI x, a2, a3, a4] (vI x :: S) h Q := wp_iload rfl rfl
theorem s227_8 : WP 227 0 8 L [vI x] h Q ↔ Q (.inl (some (vI x))) h := wp_iret0 rfl rfl
theorem s227_9 : WP 227 0 9 [vA r, a1, a2, a3, a4] S h Q ↔ WP 227 0 10 [vA r, a1, a2, a3, a4] (vA r :: S) h Q := wp_aload rfl rfl
theorem s227_10 : WP 227 0 10 L (vA (some a) :: S) h Q ↔ ((hk h a).1 = 110 ∧ (zw S ≤ 8 ∧ WP 145 0 0 [vA (some a)] [] h (zret 227 0 10 13 L S Q))) := wp_V1 (c := 110) rfl rfl (fun _ => rfl) rfl rfl (zcan_of rfl rfl) rfl rfl rfl
theorem s227_13 : WP 227 0 13 L S h Q ↔ WP 227 0 14 L (vI 0 :: S) h Q := wp_pl rfl rfl rfl
theorem s227_14 : WP 227 0 14 [a0, a1, a2, a3, a4] (vI x :: S) h Q ↔ WP 227 0 15 [a0, a1, a2, vI x, a4] S h Q := wp_istore rfl rfl rfl
theorem s227_15 : WP 227 0 15 [vA r, a1, a2, a3, a4] S h Q ↔ WP 227 0 16 [vA r, a1, a2, a3, a4] (vA r :: S) h Q := wp_aload rfl rfl
theorem s227_16 : WP 227 0 16 L S h Q ↔ WP 227 0 18 L (vI 48 :: S) h Q := wp_pl rfl rfl rfl
theorem s227_18 : WP 227 0 18 L S h Q ↔ WP 227 0 20 L (vI 57 :: S) h Q := wp_pl rfl rfl rfl
theorem s227_20 : WP 227 0 20 L (vI x1 :: vI x0 :: vA (some a) :: S) h Q ↔ ((hk h a).1 = 110 ∧ (zw S ≤ 8 ∧ WP 186 0 0 [vA (some a), vI x0, vI x1] [] h (zret 227 0 20 23 L S Q))) := wp_V1 (c := 110) rfl rfl (fun _ => rfl) rfl rfl (zcan_of rfl rfl) rfl rfl rfl
theorem s227_23 : WP 227 0 23 L (vI x :: S) h Q ↔ zif (x = 0) (WP 227 0 70 L S h Q) (WP 227 0 26 L S h Q) := wp_bE zc_eq rfl rfl rfl
theorem s227_26 : WP 227 0 26 [vA r, a1, a2, a3, a4] S h Q ↔ WP 227 0 27 [vA r, a1, a2, a3, a4] (vA r :: S) h Q := wp_aload rfl rfl
theorem s227_27 : WP 227 0 27 L (vA (some a) :: S) h Q ↔ (zhas 49 (hk h a) = true ∧ WP 227 0 30 L (hm h a 49 :: S) h Q) := wp_if rfl rfl rfl
theorem s227_30 : WP 227 0 30 [vA r, a1, a2, a3, a4] S h Q ↔ WP 227 0 31 [vA r, a1, a2, a3, a4] (vA r :: S) h Q := wp_aload rfl rfl
theorem s227_31 : WP 227 0 31 L (vA (some a) :: S) h Q ↔ (zhas 50 (hk h a) = true ∧ WP 227 0 34 L (hm h a 50 :: S) h Q) := wp_if rfl rfl rfl
theorem s227_34 : WP 227 0 34 L (vI y :: vI x :: S) h Q ↔ WP 227 0 35 L (vI (wr (x - y)) :: S) h Q := wp_pl rfl rfl rfl
theorem s227_35 : WP 227 0 35 L S h Q ↔ WP 227 0 36 L (vI 2 :: S) h Q := wp_pl rfl rfl rfl
theorem s227_36 : WP 227 0 36 L (vI y :: vI x :: S) h Q ↔ zif (x < y) (WP 227 0 39 L S h Q) (WP 227 0 57 L S h Q) := wp_bN zc_lt rfl rfl rfl
theorem s227_39 : WP 227 0 39 L S h Q ↔ WP 227 0 41 L (vI 10 :: S) h Q := wp_pl rfl rfl rfl
theorem s227_41 : WP 227 0 41 [a0, a1, a2, vI x, a4] S h Q ↔ WP 227 0 42 [a0, a1, a2, vI x, a4] (vI x :: S) h Q := wp_iload rfl rfl
theorem s227_42 : WP 227 0 42 L (vI y :: vI x :: S) h Q ↔ WP 227 0 43 L (vI (wr (x * y)) :: S) h Q := wp_pl rfl rfl rfl
theorem s227_43 : WP 227 0 43 [vA r, a1, a2, a3, a4] S h Q ↔ WP 227 0 44 [vA r, a1, a2, a3, a4] (vA r :: S) h Q := wp_aload rfl rfl
theorem s227_44 : WP 227 0 44 L (vA (some a) :: S) h Q ↔ (zhas 46 (hk h a) = true ∧ WP 227 0 47 L (hm h a 46 :: S) h Q) := wp_if rfl rfl rfl
theorem s227_47 : WP 227 0 47 [vA r, a1, a2, a3, a4] S h Q ↔ WP 227 0 48 [vA r, a1, a2, a3, a4] (vA r :: S) h Q := wp_aload rfl rfl
theorem s227_48 : WP 227 0 48 L (vA (some a) :: S) h Q ↔ (zhas 49 (hk h a) = true ∧ WP 227 0 51 L (hm h a 49 :: S) h Q) := wp_if rfl rfl rfl
theorem s227_51 : WP 227 0 51 L (vI x :: vA (some a) :: S) h Q ↔ ((((hk h a).1 = 2 ∨ (hk h a).1 = 3) ∧ 0 ≤ x ∧ x < ((hk h a).2 : Int)) ∧ WP 227 0 52 L (hm h a x.toNat :: S) h Q) := wp_if rfl rfl rfl
theorem s227_52 : WP 227 0 52 L (vI y :: vI x :: S) h Q ↔ WP 227 0 53 L (vI (wr (x + y)) :: S) h Q := wp_pl rfl rfl rfl
theorem s227_53 : WP 227 0 53 L S h Q ↔ WP 227 0 55 L (vI 48 :: S) h Q := wp_pl rfl rfl rfl
theorem s227_55 : WP 227 0 55 L (vI y :: vI x :: S) h Q ↔ WP 227 0 56 L (vI (wr (x - y)) :: S) h Q := wp_pl rfl rfl rfl
theorem s227_56 : WP 227 0 56 [a0, a1, a2, a3, a4] (vI x :: S) h Q ↔ WP 227 0 57 [a0, a1, a2, vI x, a4] S h Q := wp_istore rfl rfl rfl
theorem s227_57 : WP 227 0 57 [vA r, a1, a2, a3, a4] S h Q ↔ WP 227 0 58 [vA r, a1, a2, a3, a4] (vA r :: S) h Q := wp_aload rfl rfl
theorem s227_58 : WP 227 0 58 L (vA r :: S) h Q ↔ WP 227 0 59 L (vA r :: vA r :: S) h Q := wp_pl rfl rfl rfl
theorem s227_58i : WP 227 0 58 L (vI x :: S) h Q ↔ WP 227 0 59 L (vI x :: vI x :: S) h Q := wp_pl rfl rfl rfl
theorem s227_59 : WP 227 0 59 L (vA (some a) :: S) h Q ↔ (zhas 49 (hk h a) = true ∧ WP 227 0 62 L (hm h a 49 :: S) h Q) := wp_if rfl rfl rfl
theorem s227_62 : WP 227 0 62 L S h Q ↔ WP 227 0 63 L (vI 1 :: S) h Q := wp_pl rfl rfl rfl
theorem s227_63 : WP 227 0 63 L (vI y :: vI x :: S) h Q ↔ WP 227 0 64 L (vI (wr (x + y)) :: S) h Q := wp_pl rfl rfl rfl
theorem s227_64 : WP 227 0 64 L (vI x :: vA (some a) :: S) h Q ↔ ((zNC ≤ a ∧ zhas 49 (hk h a) = true) ∧ WP 227 0 67 L S (hput h a 49 (vI x)) Q) := wp_put0 rfl rfl
theorem s227_67 : WP 227 0 67 L S h Q ↔ WP 227 0 15 L S h Q := wp_pl rfl rfl rfl
theorem s227_70 : WP 227 0 70 [vA r, a1, a2, a3, a4] S h Q ↔ WP 227 0 71 [vA r, a1, a2, a3, a4] (vA r :: S) h Q := wp_aload rfl rfl
theorem s227_71 : WP 227 0 71 L (vA (some a) :: S) h Q ↔ (zhas 49 (hk h a) = true ∧ WP 227 0 74 L (hm h a 49 :: S) h Q) := wp_if rfl rfl rfl
theorem s227_74 : WP 227 0 74 [vA r, a1, a2, a3, a4] S h Q ↔ WP 227 0 75 [vA r, a1, a2, a3, a4] (vA r :: S) h Q := wp_aload rfl rfl
theorem s227_75 : WP 227 0 75 L (vA (some a) :: S) h Q ↔ (zhas 50 (hk h a) = true ∧ WP 227 0 78 L (hm h a 50 :: S) h Q) := wp_if rfl rfl rfl
theorem s227_78 : WP 227 0 78 L (vI y :: vI x :: S) h Q ↔ WP 227 0 79 L (vI (wr (x - y)) :: S) h Q := wp_pl rfl rfl rfl
theorem s227_79 : WP 227 0 79 [a0, a1, a2, a3, a4] (vI x :: S) h Q ↔ WP 227 0 81 [a0, a1, a2, a3, vI x] S h Q := wp_istore rfl rfl rfl
theorem s227_81 : WP 227 0 81 [a0, a1, a2, a3, vI x] S h Q ↔ WP 227 0 83 [a0, a1, a2, a3, vI x] (vI x :: S) h Q := wp_iload rfl rfl
theorem s227_83 : WP 227 0 83 L (vI x :: S) h Q ↔ zif (x = 0) (WP 227 0 101 L S h Q) (WP 227 0 86 L S h Q) := wp_bE zc_eq rfl rfl rfl
theorem s227_86 : WP 227 0 86 [a0, a1, a2, a3, vI x] S h Q ↔ WP 227 0 88 [a0, a1, a2, a3, vI x] (vI x :: S) h Q := wp_iload rfl rfl
theorem s227_88 : WP 227 0 88 L S h Q ↔ WP 227 0 89 L (vI 2 :: S) h Q := wp_pl rfl rfl rfl
theorem s227_89 : WP 227 0 89 L (vI y :: vI x :: S) h Q ↔ zif (y < x) (WP 227 0 101 L S h Q) (WP 227 0 92 L S h Q) := wp_bE zc_gt rfl rfl rfl
theorem s227_92 : WP 227 0 92 [a0, a1, a2, vI x, a4] S h Q ↔ WP 227 0 93 [a0, a1, a2, vI x, a4] (vI x :: S) h Q := wp_iload rfl rfl
theorem s227_93 : WP 227 0 93 [a0, vI x, a2, a3, a4] S h Q ↔ WP 227 0 94 [a0, vI x, a2, a3, a4] (vI x :: S) h Q := wp_iload rfl rfl
theorem s227_94 : WP 227 0 94 [a0, a1, vI x, a3, a4] S h Q ↔ WP 227 0 95 [a0, a1, vI x, a3, a4] (vI x :: S) h Q := wp_iload rfl rfl
theorem s227_95 : WP 227 0 95 L (vI x2 :: vI x1 :: vI x0 :: S) h Q ↔ (zw S ≤ 8 ∧ WP 183 0 0 [vI x0, vI x1, vI x2] [] h (zret 227 0 95 98 L S Q)) := wp_S rfl rfl (zcan_of rfl rfl) rfl rfl rfl
theorem s227_98 : WP 227 0 98 L (vI x :: S) h Q ↔ zif (x = 0) (WP 227 0 101 L S h Q) (WP 227 0 105 L S h Q) := wp_bN zc_eq rfl rfl rfl
theorem s227_101 : WP 227 0 101 [vA r, a1, a2, a3, a4] S h Q ↔ WP 227 0 102 [vA r, a1, a2, a3, a4] (vA r :: S) h Q := wp_aload rfl rfl
theorem s227_102 : WP 227 0 102 L (vA (some a) :: S) h Q ↔ ((hk h a).1 = 110 ∧ (zw S ≤ 8 ∧ WP 161 0 0 [vA (some a)] [] h (zret 227 0 102 105 L S Q))) := wp_V1 (c := 110) rfl rfl (fun _ => rfl) rfl rfl (zcan_of rfl rfl) rfl rfl rfl
theorem s227_105 : WP 227 0 105 [a0, a1, a2, vI x, a4] S h Q ↔ WP 227 0 106 [a0, a1, a2, vI x, a4] (vI x :: S) h Q := wp_iload rfl rfl
theorem s227_106 : WP 227 0 106 L [vI x] h Q ↔ Q (.inl (some (vI x))) h := wp_iret0 rfl rfl
/-! RepeatFreeModel.often(IIII)J -/
theorem s228_0 : WP 228 0 0 [vA r, a1, a2, a3, a4] S h Q ↔ WP 228 0 1 [vA r, a1, a2, a3, a4] (vA r :: S) h Q := wp_aload rfl rfl
theorem s228_1 : WP 228 0 1 L S h Q ↔ WP 228 0 2 L (vI 0 :: S) h Q := wp_pl rfl rfl rfl
theorem s228_2 : WP 228 0 2 L (vI x :: vA (some a) :: S) h Q ↔ ((zNC ≤ a ∧ zhas 45 (hk h a) = true) ∧ WP 228 0 5 L S (hput h a 45 (vI x)) Q) := wp_put0 rfl rfl
theorem s228_5 : WP 228 0 5 [vA r, a1, a2, a3, a4] S h Q ↔ WP 228 0 6 [vA r, a1, a2, a3, a4] (vA r :: S) h Q := wp_aload rfl rfl
theorem s228_6 : WP 228 0 6 [a0, vI x, a2, a3, a4] S h Q ↔ WP 228 0 7 [a0, vI x, a2, a3, a4] (vI x :: S) h Q := wp_iload rfl rfl
theorem s228_7 : WP 228 0 7 [a0, a1, vI x, a3, a4] S h Q ↔ WP 228 0 8 [a0, a1, vI x, a3, a4] (vI x :: S) h Q := wp_iload rfl rfl
theorem s228_8 : WP 228 0 8 [a0, a1, a2, vI x, a4] S h Q ↔ WP 228 0 9 [a0, a1, a2, vI x, a4] (vI x :: S) h Q := wp_iload rfl rfl
theorem s228_9 : WP 228 0 9 L (vI x2 :: vI x1 :: vI x0 :: vA (some a) :: S) h Q ↔ ((hk h a).1 = 110 ∧ (zw S ≤ 8 ∧ WP 225 0 0 [vA (some a), vI x0, vI x1, vI x2] [] h (zret 228 0 9 12 L S Q))) := wp_V1 (c := 110) rfl rfl (fun _ => rfl) rfl rfl (zcan_of rfl rfl) rfl rfl rfl
theorem s228_12 : WP 228 0 12 L (vI x :: S) h Q ↔ zif (x = 0) (WP 228 0 15 L S h Q) (WP 228 0 25 L S h Q) := wp_bN zc_eq rfl rfl rfl
theorem s228_15 : WP 228 0 15 [vA r, a1, a2, a3, a4] S h Q ↔ WP 228 0 16 [vA r, a1, a2, a3, a4] (vA r :: S) h Q := wp_aload rfl rfl
theorem s228_16 : WP 228 0 16 [a0, a1, a2, a3, vI x] S h Q ↔ WP 228 0 18 [a0, a1, a2, a3, vI x] (vI x :: S) h Q := wp_iload rfl rfl
theorem s228_18 : WP 228 0 18 L S h Q ↔ WP 228 0 19 L (vI 2 :: S) h Q := wp_pl rfl rfl rfl
theorem s228_19 : WP 228 0 19 L (vI x1 :: vI x0 :: vA (some a) :: S) h Q ↔ ((hk h a).1 = 110 ∧ (zw S ≤ 8 ∧ WP 222 0 0 [vA (some a), vI x0, vI x1] [] h (zret 228 0 19 22 L S Q))) := wp_V1 (c := 110) rfl rfl (fun _ => rfl) rfl rfl (zcan_of rfl rfl) rfl rfl rfl
theorem s228_22 : WP 228 0 22 L (vI x :: S) h Q ↔ zif (x = 0) (WP 228 0 27 L S h Q) (WP 228 0 25 L S h Q) := wp_bE zc_eq rfl rfl rfl
theorem s228_25 : WP 228 0 25 L S h Q ↔ WP 228 0 26 L (vL 0 :: S) h Q := wp_pl rfl rfl rfl
theorem s228_26 : WP 228 0 26 L [vL x] h Q ↔ Q (.inl (some (vL x))) h := wp_lret rfl
theorem s228_27 : WP 228 0 27 [vA r, a1, a2, a3, a4] S h Q ↔ WP 228 0 28 [vA r, a1, a2, a3, a4] (vA r :: S) h Q := wp_aload rfl rfl
theorem s228_28 : WP 228 0 28 [a0, vI x, a2, a3, a4] S h Q ↔ WP 228 0 29 [a0, vI x, a2, a3, a4] (vI x :: S) h Q := wp_iload rfl rfl
theorem s228_29 : WP 228 0 29 [a0, a1, a2, vI x, a4] S h Q ↔ WP 228 0 30 [a0, a1, a2, vI x, a4] (vI x :: S) h Q := wp_iload rfl rfl
theorem s228_30 : WP 228 0 30 L (vI x1 :: vI x0 :: vA (some a) :: S) h Q ↔ ((hk h a).1 = 110 ∧ (zw S ≤ 8 ∧ WP 197 0 0 [vA (some a), vI x0, vI x1, vJ, vJ, vJ, vJ] [] h (zret 228 0 30 33 L S Q))) := wp_V1 (c := 110) rfl rfl (fun _ => rfl) rfl rfl (zcan_of rfl rfl) rfl rfl rfl
theorem s228_33 : WP 228 0 33 [vA r, a1, a2, a3, a4] S h Q ↔ WP 228 0 34 [vA r, a1, a2, a3, a4] (vA r :: S) h Q := wp_aload rfl rfl
theorem s228_34 : WP 228 0 34 L (vA (some a) :: S) h Q ↔ (zhas 72 (hk h a) = true ∧ WP 228 0 37 L (hm h a 72 :: S) h Q) := wp_if rfl rfl rfl
theorem s228_37 : WP 228 0 37 [a0, a1, a2, vI x, a4] S h Q ↔ WP 228 0 38 [a0, a1, a2, vI x, a4] (vI x :: S) h Q := wp_iload rfl rfl
theorem s228_38 : WP 228 0 38 [a0, a1, vI x, a3, a4] S h Q ↔ WP 228 0 39 [a0, a1, vI x, a3, a4] (vI x :: S) h Q := wp_iload rfl rfl
theorem s228_39 : WP 228 0 39 [a0, a1, a2, a3, vI x] S h Q ↔ WP 228 0 41 [a0, a1, a2, a3, vI x] (vI x :: S) h Q := wp_iload rfl rfl
theorem s228_41 : WP 228 0 41 L (vI x2 :: vI x1 :: vI x0 :: S) h Q ↔ (zw S ≤ 8 ∧ WP 139 0 0 [vI x0, vI x1, vI x2] [] h (zret 228 0 41 44 L S Q)) := wp_S rfl rfl (zcan_of rfl rfl) rfl rfl rfl
theorem s228_44 : WP 228 0 44 L (vI x :: vA (some a) :: S) h Q ↔ (((hk h a).1 = 4 ∧ 0 ≤ x ∧ x < ((hk h a).2 : Int)) ∧ WP 228 0 45 L (hm h a x.toNat :: S) h Q) := wp_if rfl rfl rfl
theorem s228_45 : WP 228 0 45 L [vL x] h Q ↔ Q (.inl (some (vL x))) h := wp_lret rfl
/-! RepeatFreeModel.pattern(II)I -/
theorem s229_0 : WP 229 0 0 [vA r, a1, a2] S h Q ↔ WP 229 0 1 [vA r, a1, a2] (vA r :: S) h Q := wp_aload rfl rfl
theorem s229_1 : WP 229 0 1 L S h Q ↔ WP 229 0 2 L (vI 0 :: S) h Q := wp_pl rfl rfl rfl
theorem s229_2 : WP 229 0 2 L (vI x :: vA (some a) :: S) h Q ↔ ((zNC ≤ a ∧ zhas 45 (hk h a) = true) ∧ WP 229 0 5 L S (hput h a 45 (vI x)) Q) := wp_put0 rfl rfl
theorem s229_5 : WP 229 0 5 [vA r, a1, a2] S h Q ↔ WP 229 0 6 [vA r, a1, a2] (vA r :: S) h Q := wp_aload rfl rfl
theorem s229_6 : WP 229 0 6 [a0, vI x, a2] S h Q ↔ WP 229 0 7 [a0, vI x, a2] (vI x :: S) h Q := wp_iload rfl rfl
theorem s229_7 : WP 229 0 7 L (vI x0 :: vA (some a) :: S) h Q ↔ ((hk h a).1 = 110 ∧ (zw S ≤ 8 ∧ WP 224 0 0 [vA (some a), vI x0] [] h (zret 229 0 7 10 L S Q))) := wp_V1 (c := 110) rfl rfl (fun _ => rfl) rfl rfl (zcan_of rfl rfl) rfl rfl rfl
theorem s229_10 : WP 229 0 10 L (vI x :: S) h Q ↔ zif (x = 0) (WP 229 0 13 L S h Q) (WP 229 0 35 L S h Q) := wp_bN zc_eq rfl rfl rfl
theorem s229_13 : WP 229 0 13 [vA r, a1, a2] S h Q ↔ WP 229 0 14 [vA r, a1, a2] (vA r :: S) h Q := wp_aload rfl rfl
theorem s229_14 : WP 229 0 14 [a0, a1, vI x] S h Q ↔ WP 229 0 15 [a0, a1, vI x] (vI x :: S) h Q := wp_iload rfl rfl
theorem s229_15 : WP 229 0 15 L S h Q ↔ WP 229 0 16 L (vI 0 :: S) h Q := wp_pl rfl rfl rfl
theorem s229_16 : WP 229 0 16 L S h Q ↔ WP 229 0 17 L (vI 2 :: S) h Q := wp_pl rfl rfl rfl
theorem s229_17 : WP 229 0 17 L (vI x2 :: vI x1 :: vI x0 :: S) h Q ↔ (zw S ≤ 8 ∧ WP 183 0 0 [vI x0, vI x1, vI x2] [] h (zret 229 0 17 20 L S Q)) := wp_S rfl rfl (zcan_of rfl rfl) rfl rfl rfl
theorem s229_20 : WP 229 0 20 L (vI x :: S) h Q ↔ zif (x = 0) (WP 229 0 23 L S h Q) (WP 229 0 27 L S h Q) := wp_bN zc_eq rfl rfl rfl
theorem s229_23 : WP 229 0 23 L S h Q ↔ WP 229 0 24 L (vI 1 :: S) h Q := wp_pl rfl rfl rfl
theorem s229_24 : WP 229 0 24 L S h Q ↔ WP 229 0 28 L S h Q := wp_pl rfl rfl rfl
theorem s229_27 : WP 229 0 27 L S h Q ↔ WP 229 0 28 L (vI 0 :: S) h Q := wp_pl rfl rfl rfl
theorem s229_28 : WP 229 0 28 L S h Q ↔ WP 229 0 29 L (vI 2 :: S) h Q := wp_pl rfl rfl rfl
theorem s229_29 : WP 229 0 29 L (vI x1 :: vI x0 :: vA (some a) :: S) h Q ↔ ((hk h a).1 = 110 ∧ (zw S ≤ 8 ∧ WP 248 0 0 [vA (some a), vI x0, vI x1] [] h (zret 229 0 29 32 L S Q))) := wp_V1 (c := 110) rfl rfl (fun _ => rfl) rfl rfl (zcan_of rfl rfl) rfl rfl rfl
theorem s229_32 : WP 229 0 32 L (vI x :: S) h Q ↔ zif (x = 0) (WP 229 0 37 L S h Q) (WP 229 0 35 L S h Q) := wp_bE zc_eq rfl rfl rfl
theorem s229_35 : WP 229 0 35 L S h Q ↔ WP 229 0 36 L (vI 0 :: S) h Q := wp_pl rfl rfl rfl
theorem s229_36 : WP 229 0 36 L [vI x] h Q ↔ Q (.inl (some (vI x))) h := wp_iret0 rfl rfl
theorem s229_37 : WP 229 0 37 [a0, a1, vI x] S h Q ↔ WP 229 0 38 [a0, a1, vI x] (vI x :: S) h Q := wp_iload rfl rfl
theorem s229_38 : WP 229 0 38 L (vI x :: S) h Q ↔ zif (x = 0) (WP 229 0 41 L S h Q) (WP 229 0 54 L S h Q) := wp_bN zc_eq rfl rfl rfl
theorem s229_41 : WP 229 0 41 [vA r, a1, a2] S h Q ↔ WP 229 0 42 [vA r, a1, a2] (vA r :: S) h Q := wp_aload rfl rfl
theorem s229_42 : WP 229 0 42 L (vA (some a) :: S) h Q ↔ (zhas 54 (hk h a) = true ∧ WP 229 0 45 L (hm h a 54 :: S) h Q) := wp_if rfl rfl rfl
theorem s229_45 : WP 229 0 45 L S h Q ↔ WP 229 0 48 L (vI 166 :: S) h Q := wp_pl rfl rfl rfl
theorem s229_48 : WP 229 0 48 [a0, vI x, a2] S h Q ↔ WP 229 0 49 [a0, vI x, a2] (vI x :: S) h Q := wp_iload rfl rfl
theorem s229_49 : WP 229 0 49 L (vI y :: vI x :: S) h Q ↔ WP 229 0 50 L (vI (wr (x + y)) :: S) h Q := wp_pl rfl rfl rfl
theorem s229_50 : WP 229 0 50 L (vI x :: vA (some a) :: S) h Q ↔ (((hk h a).1 = 1 ∧ 0 ≤ x ∧ x < ((hk h a).2 : Int)) ∧ WP 229 0 51 L (hm h a x.toNat :: S) h Q) := wp_if rfl rfl rfl
theorem s229_51 : WP 229 0 51 L S h Q ↔ WP 229 0 77 L S h Q := wp_pl rfl rfl rfl
theorem s229_54 : WP 229 0 54 [a0, a1, vI x] S h Q ↔ WP 229 0 55 [a0, a1, vI x] (vI x :: S) h Q := wp_iload rfl rfl
theorem s229_55 : WP 229 0 55 L S h Q ↔ WP 229 0 56 L (vI 1 :: S) h Q := wp_pl rfl rfl rfl
theorem s229_56 : WP 229 0 56 L (vI y :: vI x :: S) h Q ↔ zif (x = y) (WP 229 0 59 L S h Q) (WP 229 0 67 L S h Q) := wp_bN zc_eq rfl rfl rfl
theorem s229_59 : WP 229 0 59 [vA r, a1, a2] S h Q ↔ WP 229 0 60 [vA r, a1, a2] (vA r :: S) h Q := wp_aload rfl rfl
theorem s229_60 : WP 229 0 60 [a0, vI x, a2] S h Q ↔ WP 229 0 61 [a0, vI x, a2] (vI x :: S) h Q := wp_iload rfl rfl
theorem s229_61 : WP 229 0 61 L (vI x0 :: vA (some a) :: S) h Q ↔ ((hk h a).1 = 110 ∧ (zw S ≤ 8 ∧ WP 204 0 0 [vA (some a), vI x0, vJ, vJ] [] h (zret 229 0 61 64 L S Q))) := wp_V1 (c := 110) rfl rfl (fun _ => rfl) rfl rfl (zcan_of rfl rfl) rfl rfl rfl
theorem s229_64 : WP 229 0 64 L S h Q ↔ WP 229 0 77 L S h Q := wp_pl rfl rfl rfl
theorem s229_67 : WP 229 0 67 [vA r, a1, a2] S h Q ↔ WP 229 0 68 [vA r, a1, a2] (vA r :: S) h Q := wp_aload rfl rfl
theorem s229_68 : WP 229 0 68 L (vA (some a) :: S) h Q ↔ (zhas 54 (hk h a) = true ∧ WP 229 0 71 L (hm h a 54 :: S) h Q) := wp_if rfl rfl rfl
theorem s229_71 : WP 229 0 71 L S h Q ↔ WP 229 0 74 L (vI 194 :: S) h Q := wp_pl rfl rfl rfl
theorem s229_74 : WP 229 0 74 [a0, vI x, a2] S h Q ↔ WP 229 0 75 [a0, vI x, a2] (vI x :: S) h Q := wp_iload rfl rfl
theorem s229_75 : WP 229 0 75 L (vI y :: vI x :: S) h Q ↔ WP 229 0 76 L (vI (wr (x + y)) :: S) h Q := wp_pl rfl rfl rfl
theorem s229_76 : WP 229 0 76 L (vI x :: vA (some a) :: S) h Q ↔ (((hk h a).1 = 1 ∧ 0 ≤ x ∧ x < ((hk h a).2 : Int)) ∧ WP 229 0 77 L (hm h a x.toNat :: S) h Q) := wp_if rfl rfl rfl
theorem s229_77 : WP 229 0 77 L [vI x] h Q ↔ Q (.inl (some (vI x))) h := wp_iret0 rfl rfl
/-! RepeatFreeModel.patternLine()V -/
theorem s230_0 : WP 230 0 0 [vA r, a1] S h Q ↔ WP 230 0 1 [vA r, a1] (vA r :: S) h Q := wp_aload rfl rfl
theorem s230_1 : WP 230 0 1 L (vA (some a) :: S) h Q ↔ (zhas 55 (hk h a) = true ∧ WP 230 0 4 L (hm h a 55 :: S) h Q) := wp_if rfl rfl rfl
theorem s230_4 : WP 230 0 4 L S h Q ↔ WP 230 0 5 L (vI 5 :: S) h Q := wp_pl rfl rfl rfl
theorem s230_5 : WP 230 0 5 L (vI x :: vA (some a) :: S) h Q ↔ (((hk h a).1 = 1 ∧ 0 ≤ x ∧ x < ((hk h a).2 : Int)) ∧ WP 230 0 6 L (hm h a x.toNat :: S) h Q) := wp_if rfl rfl rfl
theorem s230_6 : WP 230 0 6 [a0, a1] (vI x :: S) h Q ↔ WP 230 0 7 [a0, vI x] S h Q := wp_istore rfl rfl rfl
theorem s230_7 : WP 230 0 7 [a0, vI x] S h Q ↔ WP 230 0 8 [a0, vI x] (vI x :: S) h Q := wp_iload rfl rfl
theorem s230_8 : WP 230 0 8 L S h Q ↔ WP 230 0 9 L (vI 4 :: S) h Q := wp_pl rfl rfl rfl
theorem s230_9 : WP 230 0 9 L (vI y :: vI x :: S) h Q ↔ zif (x = y) (WP 230 0 12 L S h Q) (WP 230 0 17 L S h Q) := wp_bN zc_eq rfl rfl rfl
theorem s230_12 : WP 230 0 12 [vA r, a1] S h Q ↔ WP 230 0 13 [vA r, a1] (vA r :: S) h Q := wp_aload rfl rfl
theorem s230_13 : WP 230 0 13 L (vA (some a) :: S) h Q ↔ ((hk h a).1 = 110 ∧ (zw S ≤ 8 ∧ WP 161 0 0 [vA (some a)] [] h (zret 230 0 13 16 L S Q))) := wp_V1 (c := 110) rfl rfl (fun _ => rfl) rfl rfl (zcan_of rfl rfl) rfl rfl rfl
theorem s230_16 : WP 230 0 16 L [] h Q ↔ Q (.inl none) h := wp_ret rfl
theorem s230_17 : WP 230 0 17 [vA r, a1] S h Q ↔ WP 230 0 18 [vA r, a1] (vA r :: S) h Q := wp_aload rfl rfl
theorem s230_18 : WP 230 0 18 L S h Q ↔ WP 230 0 20 L (vA (some 16) :: S) h Q := wp_pl rfl rfl rfl
theorem s230_20 : WP 230 0 20 L (vA r0 :: vA (some a) :: S) h Q ↔ ((hk h a).1 = 110 ∧ (zw S ≤ 8 ∧ WP 138 0 0 [vA (some a), vA r0] [] h (zret 230 0 20 23 L S Q))) := wp_V1 (c := 110) rfl rfl (fun _ => rfl) rfl rfl (zcan_of rfl rfl) rfl rfl rfl
theorem s230_23 : WP 230 0 23 [vA r, a1] S h Q ↔ WP 230 0 24 [vA r, a1] (vA r :: S) h Q := wp_aload rfl rfl
theorem s230_24 : WP 230 0 24 L S h Q ↔ WP 230 0 25 L (vI 4 :: S) h Q := wp_pl rfl rfl rfl
theorem s230_25 : WP 230 0 25 [a0, vI x] S h Q ↔ WP 230 0 26 [a0, vI x] (vI x :: S) h Q := wp_iload rfl rfl
theorem s230_26 : WP 230 0 26 L (vI y :: vI x :: S) h Q ↔ WP 230 0 27 L (vI (wr (x + y)) :: S) h Q := wp_pl rfl rfl rfl
theorem s230_27 : WP 230 0 27 L (vI x0 :: vA (some a) :: S) h Q ↔ ((hk h a).1 = 110 ∧ (zw S ≤ 8 ∧ WP 170 0 0 [vA (some a), vI x0, vJ, vJ] [] h (zret 230 0 27 30 L S Q))) := wp_V1 (c := 110) rfl rfl (fun _ => rfl) rfl rfl (zcan_of rfl rfl) rfl rfl rfl
theorem s230_30 : WP 230 0 30 [vA r, a1] S h Q ↔ WP 230 0 31 [vA r, a1] (vA r :: S) h Q := wp_aload rfl rfl
theorem s230_31 : WP 230 0 31 L (vA (some a) :: S) h Q ↔ (zhas 55 (hk h a) = true ∧ WP 230 0 34 L (hm h a 55 :: S) h Q) := wp_if rfl rfl rfl
theorem s230_34 : WP 230 0 34 L S h Q ↔ WP 230 0 37 L (vI 166 :: S) h Q := wp_pl rfl rfl rfl
theorem s230_37 : WP 230 0 37 [a0, vI x] S h Q ↔ WP 230 0 38 [a0, vI x] (vI x :: S) h Q := wp_iload rfl rfl
theorem s230_38 : WP 230 0 38 L (vI y :: vI x :: S) h Q ↔ WP 230 0 39 L (vI (wr (x + y)) :: S) h Q := wp_pl rfl rfl rfl
theorem s230_39 : WP 230 0 39 [vA r, a1] S h Q ↔ WP 230 0 40 [vA r, a1] (vA r :: S) h Q := wp_aload rfl rfl
theorem s230_40 : WP 230 0 40 L S h Q ↔ WP 230 0 42 L (vI 120 :: S) h Q := wp_pl rfl rfl rfl
theorem s230_42 : WP 230 0 42 L S h Q ↔ WP 230 0 43 L (vI 3 :: S) h Q := wp_pl rfl rfl rfl
theorem s230_43 : WP 230 0 43 [vA r, a1] S h Q ↔ WP 230 0 44 [vA r, a1] (vA r :: S) h Q := wp_aload rfl rfl
theorem s230_44 : WP 230 0 44 L (vA (some a) :: S) h Q ↔ (zhas 55 (hk h a) = true ∧ WP 230 0 47 L (hm h a 55 :: S) h Q) := wp_if rfl rfl rfl
theorem s230_47 : WP 230 0 47 L S h Q ↔ WP 230 0 50 L (vI 170 :: S) h Q := wp_pl rfl rfl rfl
theorem s230_50 : WP 230 0 50 L S h Q ↔ WP 230 0 52 L (vI 6 :: S) h Q := wp_pl rfl rfl rfl
theorem s230_52 : WP 230 0 52 [a0, vI x] S h Q ↔ WP 230 0 53 [a0, vI x] (vI x :: S) h Q := wp_iload rfl rfl
theorem s230_53 : WP 230 0 53 L (vI y :: vI x :: S) h Q ↔ WP 230 0 54 L (vI (wr (x * y)) :: S) h Q := wp_pl rfl rfl rfl
theorem s230_54 : WP 230 0 54 L (vI y :: vI x :: S) h Q ↔ WP 230 0 55 L (vI (wr (x + y)) :: S) h Q := wp_pl rfl rfl rfl
theorem s230_55 : WP 230 0 55 L (vI x3 :: vA r2 :: vI x1 :: vI x0 :: vA (some a) :: S) h Q ↔ ((hk h a).1 = 110 ∧ (zw S ≤ 8 ∧ WP 203 0 0 [vA (some a), vI x0, vI x1, vA r2, vI x3, vJ, vJ, vJ] [] h (zret 230 0 55 58 L S Q))) := wp_V1 (c := 110) rfl rfl (fun _ => rfl) rfl rfl (zcan_of rfl rfl) rfl rfl rfl
theorem s230_58 : WP 230 0 58 L (vI y :: vI x :: vA (some a) :: S) h Q ↔ (((hk h a).1 = 1 ∧ (0 ≤ x ∧ x < ((hk h a).2 : Int)) ∧ zNC ≤ a) ∧ WP 230 0 59 L S (hput h a x.toNat (vI y)) Q) := wp_if rfl rfl rfl
theorem s230_59 : WP 230 0 59 [vA r, a1] S h Q ↔ WP 230 0 60 [vA r, a1] (vA r :: S) h Q := wp_aload rfl rfl
theorem s230_60 : WP 230 0 60 L (vA (some a) :: S) h Q ↔ (zhas 55 (hk h a) = true ∧ WP 230 0 63 L (hm h a 55 :: S) h Q) := wp_if rfl rfl rfl
theorem s230_63 : WP 230 0 63 L S h Q ↔ WP 230 0 64 L (vI 5 :: S) h Q := wp_pl rfl rfl rfl
theorem s230_64 : WP 230 0 64 L (vI y :: vA r :: S) h Q ↔ WP 230 0 65 L (vI y :: vA r :: vI y :: vA r :: S) h Q := wp_pl rfl rfl rfl
theorem s230_64l : WP 230 0 64 L (vL x :: S) h Q ↔ WP 230 0 65 L (vL x :: vL x :: S) h Q := wp_pl rfl rfl rfl
theorem s230_65 : WP 230 0 65 L (vI x :: vA (some a) :: S) h Q ↔ (((hk h a).1 = 1 ∧ 0 ≤ x ∧ x < ((hk h a).2 : Int)) ∧ WP 230 0 66 L (hm h a x.toNat :: S) h Q) := wp_if rfl rfl rfl
theorem s230_66 : WP 230 0 66 L S h Q ↔ WP 230 0 67 L (vI 1 :: S) h Q := wp_pl rfl rfl rfl
theorem s230_67 : WP 230 0 67 L (vI y :: vI x :: S) h Q ↔ WP 230 0 68 L (vI (wr (x + y)) :: S) h Q := wp_pl rfl rfl rfl
theorem s230_68 : WP 230 0 68 L (vI y :: vI x :: vA (some a) :: S) h Q ↔ (((hk h a).1 = 1 ∧ (0 ≤ x ∧ x < ((hk h a).2 : Int)) ∧ zNC ≤ a) ∧ WP 230 0 69 L S (hput h a x.toNat (vI y)) Q) := wp_if rfl rfl rfl
theorem s230_69 : WP 230 0 69 L [] h Q ↔ Q (.inl none) h := wp_ret rfl
/-! RepeatFreeModel.period()I -/
theorem s231_0 : WP 231 0 0 [vA r] S h Q ↔ WP 231 0 1 [vA r] (vA r :: S) h Q := wp_aload rfl rfl
theorem s231_1 : WP 231 0 1 L S h Q ↔ WP 231 0 2 L (vI 0 :: S) h Q := wp_pl rfl rfl rfl
theorem s231_2 : WP 231 0 2 L (vI x :: vA (some a) :: S) h Q ↔ ((zNC ≤ a ∧ zhas 45 (hk h a) = true) ∧ WP 231 0 5 L S (hput h a 45 (vI x)) Q) := wp_put0 rfl rfl
theorem s231_5 : WP 231 0 5 [vA r] S h Q ↔ WP 231 0 6 [vA r] (vA r :: S) h Q := wp_aload rfl rfl
theorem s231_6 : WP 231 0 6 L (vA (some a) :: S) h Q ↔ (zhas 59 (hk h a) = true ∧ WP 231 0 9 L (hm h a 59 :: S) h Q) := wp_if rfl rfl rfl
theorem s231_9 : WP 231 0 9 L (vI x :: S) h Q ↔ zif (x = 0) (WP 231 0 12 L S h Q) (WP 231 0 16 L S h Q) := wp_bN zc_eq rfl rfl rfl
theorem s231_12 : WP 231 0 12 L S h Q ↔ WP 231 0 13 L (vI (-1) :: S) h Q := wp_pl rfl rfl rfl
theorem s231_13 : WP 231 0 13 L S h Q ↔ WP 231 0 25 L S h Q := wp_pl rfl rfl rfl
theorem s231_16 : WP 231 0 16 [vA r] S h Q ↔ WP 231 0 17 [vA r] (vA r :: S) h Q := wp_aload rfl rfl
theorem s231_17 : WP 231 0 17 L S h Q ↔ WP 231 0 18 L (vI 0 :: S) h Q := wp_pl rfl rfl rfl
theorem s231_18 : WP 231 0 18 [vA r] S h Q ↔ WP 231 0 19 [vA r] (vA r :: S) h Q := wp_aload rfl rfl
theorem s231_19 : WP 231 0 19 L (vA (some a) :: S) h Q ↔ (zhas 59 (hk h a) = true ∧ WP 231 0 22 L (hm h a 59 :: S) h Q) := wp_if rfl rfl rfl
theorem s231_22 : WP 231 0 22 L (vI x1 :: vI x0 :: vA (some a) :: S) h Q ↔ ((hk h a).1 = 110 ∧ (zw S ≤ 8 ∧ WP 232 0 0 [vA (some a), vI x0, vI x1, vJ, vJ] [] h (zret 231 0 22 25 L S Q))) := wp_V1 (c := 110) rfl rfl (fun _ => rfl) rfl rfl (zcan_of rfl rfl) rfl rfl rfl
theorem s231_25 : WP 231 0 25 L [vI x] h Q ↔ Q (.inl (some (vI x))) h := wp_iret0 rfl rfl
/-! RepeatFreeModel.periodOf(II)I -/
theorem s232_0 : WP 232 0 0 L S h Q ↔ WP 232 0 1 L (vI 1 :: S) h Q := wp_pl rfl rfl rfl
theorem s232_1 : WP 232 0 1 [a0, a1, a2, a3, a4] (vI x :: S) h Q ↔ WP 232 0 2 [a0, a1, a2, vI x, a4] S h Q := wp_istore rfl rfl rfl
theorem s232_2 : WP 232 0 2 [a0, a1, a2, vI x, a4] S h Q ↔ WP 232 0 3 [a0, a1, a2, vI x, a4] (vI x :: S) h Q := wp_iload rfl rfl
theorem s232_3 : WP 232 0 3 [a0, a1, vI x, a3, a4] S h Q ↔ WP 232 0 4 [a0, a1, vI x, a3, a4] (vI x :: S) h Q := wp_iload rfl rfl
theorem s232_4 : WP 232 0 4 L (vI y :: vI x :: S) h Q ↔ zif (x < y) (WP 232 0 7 L S h Q) (WP 232 0 59 L S h Q) := wp_bN zc_lt rfl rfl rfl
theorem s232_7 : WP 232 0 7 [a0, a1, a2, vI x, a4] S h Q ↔ WP 232 0 8 [a0, a1, a2, vI x, a4] (vI x :: S) h Q := wp_iload rfl rfl
theorem s232_8 : WP 232 0 8 [a0, a1, a2, a3, a4] (vI x :: S) h Q ↔ WP 232 0 10 [a0, a1, a2, a3, vI x] S h Q := wp_istore rfl rfl rfl
theorem s232_10 : WP 232 0 10 [a0, a1, a2, a3, vI x] S h Q ↔ WP 232 0 12 [a0, a1, a2, a3, vI x] (vI x :: S) h Q := wp_iload rfl rfl
theorem s232_12 : WP 232 0 12 [a0, a1, vI x, a3, a4] S h Q ↔ WP 232 0 13 [a0, a1, vI x, a3, a4] (vI x :: S) h Q := wp_iload rfl rfl
theorem s232_13 : WP 232 0 13 L (vI y :: vI x :: S) h Q ↔ zif (x < y) (WP 232 0 16 L S h Q) (WP 232 0 45 L S h Q) := wp_bN zc_lt rfl rfl rfl
theorem s232_16 : WP 232 0 16 [vA r, a1, a2, a3, a4] S h Q ↔ WP 232 0 17 [vA r, a1, a2, a3, a4] (vA r :: S) h Q := wp_aload rfl rfl
theorem s232_17 : WP 232 0 17 L (vA (some a) :: S) h Q ↔ (zhas 57 (hk h a) = true ∧ WP 232 0 20 L (hm h a 57 :: S) h Q) := wp_if rfl rfl rfl
theorem s232_20 : WP 232 0 20 [a0, vI x, a2, a3, a4] S h Q ↔ WP 232 0 21 [a0, vI x, a2, a3, a4] (vI x :: S) h Q := wp_iload rfl rfl
theorem s232_21 : WP 232 0 21 [a0, a1, a2, a3, vI x] S h Q ↔ WP 232 0 23 [a0, a1, a2, a3, vI x] (vI x :: S) h Q := wp_iload rfl rfl
theorem s232_23 : WP 232 0 23 L (vI y :: vI x :: S) h Q ↔ WP 232 0 24 L (vI (wr (x + y)) :: S) h Q := wp_pl rfl rfl rfl
theorem s232_24 : WP 232 0 24 L (vI x :: vA (some a) :: S) h Q ↔ (((hk h a).1 = 1 ∧ 0 ≤ x ∧ x < ((hk h a).2 : Int)) ∧ WP 232 0 25 L (hm h a x.toNat :: S) h Q) := wp_if rfl rfl rfl
theorem s232_25 : WP 232 0 25 [vA r, a1, a2, a3, a4] S h Q ↔ WP 232 0 26 [vA r, a1, a2, a3, a4] (vA r :: S) h Q := wp_aload rfl rfl
theorem s232_26 : WP 232 0 26 L (vA (some a) :: S) h Q ↔ (zhas 57 (hk h a) = true ∧ WP 232 0 29 L (hm h a 57 :: S) h Q) := wp_if rfl rfl rfl
theorem s232_29 : WP 232 0 29 [a0, vI x, a2, a3, a4] S h Q ↔ WP 232 0 30 [a0, vI x, a2, a3, a4] (vI x :: S) h Q := wp_iload rfl rfl
theorem s232_30 : WP 232 0 30 [a0, a1, a2, a3, vI x] S h Q ↔ WP 232 0 32 [a0, a1, a2, a3, vI x] (vI x :: S) h Q := wp_iload rfl rfl
theorem s232_32 : WP 232 0 32 L (vI y :: vI x :: S) h Q ↔ WP 232 0 33 L (vI (wr (x + y)) :: S) h Q := wp_pl rfl rfl rfl
theorem s232_33 : WP 232 0 33 [a0, a1, a2, vI x, a4] S h Q ↔ WP 232 0 34 [a0, a1, a2, vI x, a4] (vI x :: S) h Q := wp_iload rfl rfl
theorem s232_34 : WP 232 0 34 L (vI y :: vI x :: S) h Q ↔ WP 232 0 35 L (vI (wr (x - y)) :: S) h Q := wp_pl rfl rfl rfl
theorem s232_35 : WP 232 0 35 L (vI x :: vA (some a) :: S) h Q ↔ (((hk h a).1 = 1 ∧ 0 ≤ x ∧ x < ((hk h a).2 : Int)) ∧ WP 232 0 36 L (hm h a x.toNat :: S) h Q) := wp_if rfl rfl rfl
theorem s232_36 : WP 232 0 36 L (vI y :: vI x :: S) h Q ↔ zif (x = y) (WP 232 0 39 L S h Q) (WP 232 0 45 L S h Q) := wp_bN zc_eq rfl rfl rfl
theorem s232_39 : WP 232 0 39 [a0, a1, a2, a3, vI x] S h Q ↔ WP 232 0 42 [a0, a1, a2, a3, vI (wr (x + 1))] S h Q := wp_iinc rfl rfl rfl
theorem s232_42 : WP 232 0 42 L S h Q ↔ WP 232 0 10 L S h Q := wp_pl rfl rfl rfl
theorem s232_45 : WP 232 0 45 [a0, a1, a2, a3, vI x] S h Q ↔ WP 232 0 47 [a0, a1, a2, a3, vI x] (vI x :: S) h Q := wp_iload rfl rfl
theorem s232_47 : WP 232 0 47 [a0, a1, vI x, a3, a4] S h Q ↔ WP 232 0 48 [a0, a1, vI x, a3, a4] (vI x :: S) h Q := wp_iload rfl rfl
theorem s232_48 : WP 232 0 48 L (vI y :: vI x :: S) h Q ↔ zif (x = y) (WP 232 0 51 L S h Q) (WP 232 0 53 L S h Q) := wp_bN zc_eq rfl rfl rfl
theorem s232_51 : WP 232 0 51 [a0, a1, a2, vI x, a4] S h Q ↔ WP 232 0 52 [a0, a1, a2, vI x, a4] (vI x :: S) h Q := wp_iload rfl rfl
theorem s232_52 : WP 232 0 52 L [vI x] h Q ↔ Q (.inl (some (vI x))) h := wp_iret0 rfl rfl
theorem s232_53 : WP 232 0 53 [a0, a1, a2, vI x, a4] S h Q ↔ WP 232 0 56 [a0, a1, a2, vI (wr (x + 1)), a4] S h Q := wp_iinc rfl rfl rfl
theorem s232_56 : WP 232 0 56 L S h Q ↔ WP 232 0 2 L S h Q := wp_pl rfl rfl rfl
theorem s232_59 : WP 232 0 59 [a0, a1, vI x, a3, a4] S h Q ↔ WP 232 0 60 [a0, a1, vI x, a3, a4] (vI x :: S) h Q := wp_iload rfl rfl
theorem s232_60 : WP 232 0 60 L [vI x] h Q ↔ Q (.inl (some (vI x))) h := wp_iret0 rfl rfl
/-! RepeatFreeModel.placed(IIIJ)I -/
theorem s233_0 : WP 233 0 0 [a0, a1, vI x, a3, a4, a5, a6, a7, a8, a9, a10] S h Q ↔ WP 233 0 1 [a0, a1, vI x, a3, a4, a5, a6, a7, a8, a9, a10] (vI x :: S) h Q := wp_iload rfl rfl
theorem s233_1 : WP 233 0 1 [a0, a1, a2, a3, a4, a5, a6, a7, a8, a9, a10] (vI x :: S) h Q ↔ WP 233 0 3 [a0, a1, a2, a3, a4, a5, vI x, a7, a8, a9, a10] S h Q := wp_istore rfl rfl rfl
theorem s233_3 : WP 233 0 3 [a0, a1, a2, a3, vL x, vJ, a6, a7, a8, a9, a10] S h Q ↔ WP 233 0 5 [a0, a1, a2, a3, vL x, vJ, a6, a7, a8, a9, a10] (vL x :: S) h Q := wp_lload rfl rfl rfl
theorem s233_5 : WP 233 0 5 [a0, a1, a2, a3, a4, a5, a6, a7, a8, a9, a10] (vL x :: S) h Q ↔ WP 233 0 7 [a0, a1, a2, a3, a4, a5, a6, vL x, vJ, a9, a10] S h Q := wp_lstore rfl rfl rfl
theorem s233_7 : WP 233 0 7 [a0, a1, a2, vI x, a4, a5, a6, a7, a8, a9, a10] S h Q ↔ WP 233 0 8 [a0, a1, a2, vI x, a4, a5, a6, a7, a8, a9, a10] (vI x :: S) h Q := wp_iload rfl rfl
theorem s233_8 : WP 233 0 8 [a0, a1, a2, a3, a4, a5, a6, a7, a8, a9, a10] (vI x :: S) h Q ↔ WP 233 0 10 [a0, a1, a2, a3, a4, a5, a6, a7, a8, vI x, a10] S h Q := wp_istore rfl rfl rfl
theorem s233_10 : WP 233 0 10 [a0, a1, a2, a3, a4, a5, a6, a7, a8, vI x, a10] S h Q ↔ WP 233 0 12 [a0, a1, a2, a3, a4, a5, a6, a7, a8, vI x, a10] (vI x :: S) h Q := wp_iload rfl rfl
theorem s233_12 : WP 233 0 12 L (vI x :: S) h Q ↔ zif (0 < x) (WP 233 0 15 L S h Q) (WP 233 0 86 L S h Q) := wp_bN zc_gt rfl rfl rfl
theorem s233_15 : WP 233 0 15 L S h Q ↔ WP 233 0 16 L (vI 0 :: S) h Q := wp_pl rfl rfl rfl
theorem s233_16 : WP 233 0 16 [a0, a1, a2, a3, a4, a5, a6, a7, a8, a9, a10] (vI x :: S) h Q ↔ WP 233 0 18 [a0, a1, a2, a3, a4, a5, a6, a7, a8, a9, vI x] S h Q := wp_istore rfl rfl rfl
theorem s233_18 : WP 233 0 18 [a0, a1, a2, a3, a4, a5, a6, vL x, vJ, a9, a10] S h Q ↔ WP 233 0 20 [a0, a1, a2, a3, a4, a5, a6, vL x, vJ, a9, a10] (vL x :: S) h Q := wp_lload rfl rfl rfl
theorem s233_20 : WP 233 0 20 [vA r, a1, a2, a3, a4, a5, a6, a7, a8, a9, a10] S h Q ↔ WP 233 0 21 [vA r, a1, a2, a3, a4, a5, a6, a7, a8, a9, a10] (vA r :: S) h Q := wp_aload rfl rfl
theorem s233_21 : WP 233 0 21 [a0, a1, a2, a3, a4, a5, a6, a7, a8, vI x, a10] S h Q ↔ WP 233 0 23 [a0, a1, a2, a3, a4, a5, a6, a7, a8, vI x, a10] (vI x :: S) h Q := wp_iload rfl rfl
theorem s233_23 : WP 233 0 23 L S h Q ↔ WP 233 0 24 L (vI 1 :: S) h Q := wp_pl rfl rfl rfl
theorem s233_24 : WP 233 0 24 L (vI y :: vI x :: S) h Q ↔ WP 233 0 25 L (vI (wr (x - y)) :: S) h Q := wp_pl rfl rfl rfl
theorem s233_25 : WP 233 0 25 [vA r, a1, a2, a3, a4, a5, a6, a7, a8, a9, a10] S h Q ↔ WP 233 0 26 [vA r, a1, a2, a3, a4, a5, a6, a7, a8, a9, a10] (vA r :: S) h Q := wp_aload rfl rfl
theorem s233_26 : WP 233 0 26 [a0, vI x, a2, a3, a4, a5, a6, a7, a8, a9, a10] S h Q ↔ WP 233 0 27 [a0, vI x, a2, a3, a4, a5, a6, a7, a8, a9, a10] (vI x :: S) h Q := wp_iload rfl rfl
theorem s233_27 : WP 233 0 27 [a0, a1, a2, a3, a4, a5, vI x, a7, a8, a9, a10] S h Q ↔ WP 233 0 29 [a0, a1, a2, a3, a4, a5, vI x, a7, a8, a9, a10] (vI x :: S) h Q := wp_iload rfl rfl
theorem s233_29 : WP 233 0 29 [a0, a1, a2, a3, a4, a5, a6, a7, a8, a9, vI x] S h Q ↔ WP 233 0 31 [a0, a1, a2, a3, a4, a5, a6, a7, a8, a9, vI x] (vI x :: S) h Q := wp_iload rfl rfl
theorem s233_31 : WP 233 0 31 L (vI x2 :: vI x1 :: vI x0 :: vA (some a) :: S) h Q ↔ ((hk h a).1 = 110 ∧ (zw S ≤ 8 ∧ WP 180 0 0 [vA (some a), vI x0, vI x1, vI x2] [] h (zret 233 0 31 34 L S Q))) := wp_V1 (c := 110) rfl rfl (fun _ => rfl) rfl rfl (zcan_of rfl rfl) rfl rfl rfl
theorem s233_34 : WP 233 0 34 L (vI x1 :: vI x0 :: vA (some a) :: S) h Q ↔ ((hk h a).1 = 110 ∧ (zw S ≤ 8 ∧ WP 200 0 0 [vA (some a), vI x0, vI x1, vJ, vJ, vJ] [] h (zret 233 0 34 37 L S Q))) := wp_V1 (c := 110) rfl rfl (fun _ => rfl) rfl rfl (zcan_of rfl rfl) rfl rfl rfl
theorem s233_37 : WP 233 0 37 L (vL y :: vL x :: S) h Q ↔ WP 233 0 38 L (vI (zlc x y) :: S) h Q := wp_pl rfl rfl rfl
theorem s233_38 : WP 233 0 38 L (vI x :: S) h Q ↔ zif (x < 0) (WP 233 0 69 L S h Q) (WP 233 0 41 L S h Q) := wp_bE zc_lt rfl rfl rfl
theorem s233_41 : WP 233 0 41 [a0, a1, a2, a3, a4, a5, a6, vL x, vJ, a9, a10] S h Q ↔ WP 233 0 43 [a0, a1, a2, a3, a4, a5, a6, vL x, vJ, a9, a10] (vL x :: S) h Q := wp_lload rfl rfl rfl
theorem s233_43 : WP 233 0 43 [vA r, a1, a2, a3, a4, a5, a6, a7, a8, a9, a10] S h Q ↔ WP 233 0 44 [vA r, a1, a2, a3, a4, a5, a6, a7, a8, a9, a10] (vA r :: S) h Q := wp_aload rfl rfl
theorem s233_44 : WP 233 0 44 [a0, a1, a2, a3, a4, a5, a6, a7, a8, vI x, a10] S h Q ↔ WP 233 0 46 [a0, a1, a2, a3, a4, a5, a6, a7, a8, vI x, a10] (vI x :: S) h Q := wp_iload rfl rfl
theorem s233_46 : WP 233 0 46 L S h Q ↔ WP 233 0 47 L (vI 1 :: S) h Q := wp_pl rfl rfl rfl
theorem s233_47 : WP 233 0 47 L (vI y :: vI x :: S) h Q ↔ WP 233 0 48 L (vI (wr (x - y)) :: S) h Q := wp_pl rfl rfl rfl
theorem s233_48 : WP 233 0 48 [vA r, a1, a2, a3, a4, a5, a6, a7, a8, a9, a10] S h Q ↔ WP 233 0 49 [vA r, a1, a2, a3, a4, a5, a6, a7, a8, a9, a10] (vA r :: S) h Q := wp_aload rfl rfl
theorem s233_49 : WP 233 0 49 [a0, vI x, a2, a3, a4, a5, a6, a7, a8, a9, a10] S h Q ↔ WP 233 0 50 [a0, vI x, a2, a3, a4, a5, a6, a7, a8, a9, a10] (vI x :: S) h Q := wp_iload rfl rfl
theorem s233_50 : WP 233 0 50 [a0, a1, a2, a3, a4, a5, vI x, a7, a8, a9, a10] S h Q ↔ WP 233 0 52 [a0, a1, a2, a3, a4, a5, vI x, a7, a8, a9, a10] (vI x :: S) h Q := wp_iload rfl rfl
theorem s233_52 : WP 233 0 52 [a0, a1, a2, a3, a4, a5, a6, a7, a8, a9, vI x] S h Q ↔ WP 233 0 54 [a0, a1, a2, a3, a4, a5, a6, a7, a8, a9, vI x] (vI x :: S) h Q := wp_iload rfl rfl
theorem s233_54 : WP 233 0 54 L (vI x2 :: vI x1 :: vI x0 :: vA (some a) :: S) h Q ↔ ((hk h a).1 = 110 ∧ (zw S ≤ 8 ∧ WP 180 0 0 [vA (some a), vI x0, vI x1, vI x2] [] h (zret 233 0 54 57 L S Q))) := wp_V1 (c := 110) rfl rfl (fun _ => rfl) rfl rfl (zcan_of rfl rfl) rfl rfl rfl
theorem s233_57 : WP 233 0 57 L (vI x1 :: vI x0 :: vA (some a) :: S) h Q ↔ ((hk h a).1 = 110 ∧ (zw S ≤ 8 ∧ WP 200 0 0 [vA (some a), vI x0, vI x1, vJ, vJ, vJ] [] h (zret 233 0 57 60 L S Q))) := wp_V1 (c := 110) rfl rfl (fun _ => rfl) rfl rfl (zcan_of rfl rfl) rfl rfl rfl
theorem s233_60 : WP 233 0 60 L (vL y :: vL x :: S) h Q ↔ WP 233 0 61 L (vL (wl (x - y)) :: S) h Q := wp_pl rfl rfl rfl
theorem s233_61 : WP 233 0 61 [a0, a1, a2, a3, a4, a5, a6, a7, a8, a9, a10] (vL x :: S) h Q ↔ WP 233 0 63 [a0, a1, a2, a3, a4, a5, a6, vL x, vJ, a9, a10] S h Q := wp_lstore rfl rfl rfl
theorem s233_63 : WP 233 0 63 [a0, a1, a2, a3, a4, a5, a6, a7, a8, a9, vI x] S h Q ↔ WP 233 0 66 [a0, a1, a2, a3, a4, a5, a6, a7, a8, a9, vI (wr (x + 1))] S h Q := wp_iinc rfl rfl rfl
theorem s233_66 : WP 233 0 66 L S h Q ↔ WP 233 0 18 L S h Q := wp_pl rfl rfl rfl
theorem s233_69 : WP 233 0 69 [vA r, a1, a2, a3, a4, a5, a6, a7, a8, a9, a10] S h Q ↔ WP 233 0 70 [vA r, a1, a2, a3, a4, a5, a6, a7, a8, a9, a10] (vA r :: S) h Q := wp_aload rfl rfl
theorem s233_70 : WP 233 0 70 [a0, vI x, a2, a3, a4, a5, a6, a7, a8, a9, a10] S h Q ↔ WP 233 0 71 [a0, vI x, a2, a3, a4, a5, a6, a7, a8, a9, a10] (vI x :: S) h Q := wp_iload rfl rfl
theorem s233_71 : WP 233 0 71 [a0, a1, a2, a3, a4, a5, vI x, a7, a8, a9, a10] S h Q ↔ WP 233 0 73 [a0, a1, a2, a3, a4, a5, vI x, a7, a8, a9, a10] (vI x :: S) h Q := wp_iload rfl rfl
theorem s233_73 : WP 233 0 73 [a0, a1, a2, a3, a4, a5, a6, a7, a8, a9, vI x] S h Q ↔ WP 233 0 75 [a0, a1, a2, a3, a4, a5, a6, a7, a8, a9, vI x] (vI x :: S) h Q := wp_iload rfl rfl
theorem s233_75 : WP 233 0 75 L (vI x2 :: vI x1 :: vI x0 :: vA (some a) :: S) h Q ↔ ((hk h a).1 = 110 ∧ (zw S ≤ 8 ∧ WP 180 0 0 [vA (some a), vI x0, vI x1, vI x2] [] h (zret 233 0 75 78 L S Q))) := wp_V1 (c := 110) rfl rfl (fun _ => rfl) rfl rfl (zcan_of rfl rfl) rfl rfl rfl
theorem s233_78 : WP 233 0 78 [a0, a1, a2, a3, a4, a5, a6, a7, a8, a9, a10] (vI x :: S) h Q ↔ WP 233 0 80 [a0, a1, a2, a3, a4, a5, vI x, a7, a8, a9, a10] S h Q := wp_istore rfl rfl rfl
theorem s233_80 : WP 233 0 80 [a0, a1, a2, a3, a4, a5, a6, a7, a8, vI x, a10] S h Q ↔ WP 233 0 83 [a0, a1, a2, a3, a4, a5, a6, a7, a8, vI (wr (x + (-1))), a10] S h Q := wp_iinc rfl rfl rfl
theorem s233_83 : WP 233 0 83 L S h Q ↔ WP 233 0 10 L S h Q := wp_pl rfl rfl rfl
theorem s233_86 : WP 233 0 86 [a0, a1, a2, a3, a4, a5, vI x, a7, a8, a9, a10] S h Q ↔ WP 233 0 88 [a0, a1, a2, a3, a4, a5, vI x, a7, a8, a9, a10] (vI x :: S) h Q := wp_iload rfl rfl
theorem s233_88 : WP 233 0 88 L [vI x] h Q ↔ Q (.inl (some (vI x))) h := wp_iret0 rfl rfl
/-! RepeatFreeModel.pop()I -/
theorem s234_0 : WP 234 0 0 [vA r] S h Q ↔ WP 234 0 1 [vA r] (vA r :: S) h Q := wp_aload rfl rfl
theorem s234_1 : WP 234 0 1 L S h Q ↔ WP 234 0 2 L (vI 0 :: S) h Q := wp_pl rfl rfl rfl
theorem s234_2 : WP 234 0 2 L (vI x :: vA (some a) :: S) h Q ↔ ((zNC ≤ a ∧ zhas 45 (hk h a) = true) ∧ WP 234 0 5 L S (hput h a 45 (vI x)) Q) := wp_put0 rfl rfl
theorem s234_5 : WP 234 0 5 [vA r] S h Q ↔ WP 234 0 6 [vA r] (vA r :: S) h Q := wp_aload rfl rfl
theorem s234_6 : WP 234 0 6 [vA r] S h Q ↔ WP 234 0 7 [vA r] (vA r :: S) h Q := wp_aload rfl rfl
theorem s234_7 : WP 234 0 7 L (vA (some a) :: S) h Q ↔ (zhas 59 (hk h a) = true ∧ WP 234 0 10 L (hm h a 59 :: S) h Q) := wp_if rfl rfl rfl
theorem s234_10 : WP 234 0 10 L (vI x :: S) h Q ↔ zif (x = 0) (WP 234 0 13 L S h Q) (WP 234 0 17 L S h Q) := wp_bN zc_eq rfl rfl rfl
theorem s234_13 : WP 234 0 13 L S h Q ↔ WP 234 0 14 L (vI 1 :: S) h Q := wp_pl rfl rfl rfl
theorem s234_14 : WP 234 0 14 L S h Q ↔ WP 234 0 18 L S h Q := wp_pl rfl rfl rfl
theorem s234_17 : WP 234 0 17 L S h Q ↔ WP 234 0 18 L (vI 0 :: S) h Q := wp_pl rfl rfl rfl
theorem s234_18 : WP 234 0 18 L S h Q ↔ WP 234 0 19 L (vI 1 :: S) h Q := wp_pl rfl rfl rfl
theorem s234_19 : WP 234 0 19 L (vI x1 :: vI x0 :: vA (some a) :: S) h Q ↔ ((hk h a).1 = 110 ∧ (zw S ≤ 8 ∧ WP 248 0 0 [vA (some a), vI x0, vI x1] [] h (zret 234 0 19 22 L S Q))) := wp_V1 (c := 110) rfl rfl (fun _ => rfl) rfl rfl (zcan_of rfl rfl) rfl rfl rfl
theorem s234_22 : WP 234 0 22 L (vI x :: S) h Q ↔ zif (x = 0) (WP 234 0 27 L S h Q) (WP 234 0 25 L S h Q) := wp_bE zc_eq rfl rfl rfl
theorem s234_25 : WP 234 0 25 L S h Q ↔ WP 234 0 26 L (vI 0 :: S) h Q := wp_pl rfl rfl rfl
theorem s234_26 : WP 234 0 26 L [vI x] h Q ↔ Q (.inl (some (vI x))) h := wp_iret0 rfl rfl
theorem s234_27 : WP 234 0 27 [vA r] S h Q ↔ WP 234 0 28 [vA r] (vA r :: S) h Q := wp_aload rfl rfl
theorem s234_28 : WP 234 0 28 L (vA (some a) :: S) h Q ↔ ((hk h a).1 = 110 ∧ (zw S ≤ 8 ∧ WP 195 0 0 [vA (some a), vJ, vJ] [] h (zret 234 0 28 31 L S Q))) := wp_V1 (c := 110) rfl rfl (fun _ => rfl) rfl rfl (zcan_of rfl rfl) rfl rfl rfl
theorem s234_31 : WP 234 0 31 [vA r] S h Q ↔ WP 234 0 32 [vA r] (vA r :: S) h Q := wp_aload rfl rfl
theorem s234_32 : WP 234 0 32 L (vA r :: S) h Q ↔ WP 234 0 33 L (vA r :: vA r :: S) h Q := wp_pl rfl rfl rfl
theorem s234_32i : WP 234 0 32 L (vI x :: S) h Q ↔ WP 234 0 33 L (vI x :: vI x :: S) h Q := wp_pl rfl rfl rfl
theorem s234_33 : WP 234 0 33 L (vA (some a) :: S) h Q ↔ (zhas 59 (hk h a) = true ∧ WP 234 0 36 L (hm h a 59 :: S) h Q) := wp_if rfl rfl rfl
theorem s234_36 : WP 234 0 36 L S h Q ↔ WP 234 0 37 L (vI 1 :: S) h Q := wp_pl rfl rfl rfl
theorem s234_37 : WP 234 0 37 L (vI y :: vI x :: S) h Q ↔ WP 234 0 38 L (vI (wr (x - y)) :: S) h Q := wp_pl rfl rfl rfl
theorem s234_38 : WP 234 0 38 L (vI x :: vA (some a) :: S) h Q ↔ ((zNC ≤ a ∧ zhas 59 (hk h a) = true) ∧ WP 234 0 41 L S (hput h a 59 (vI x)) Q) := wp_put0 rfl rfl
theorem s234_41 : WP 234 0 41 [vA r] S h Q ↔ WP 234 0 42 [vA r] (vA r :: S) h Q := wp_aload rfl rfl
theorem s234_42 : WP 234 0 42 L (vA (some a) :: S) h Q ↔ (zhas 57 (hk h a) = true ∧ WP 234 0 45 L (hm h a 57 :: S) h Q) := wp_if rfl rfl rfl
theorem s234_45 : WP 234 0 45 [vA r] S h Q ↔ WP 234 0 46 [vA r] (vA r :: S) h Q := wp_aload rfl rfl
theorem s234_46 : WP 234 0 46 L (vA (some a) :: S) h Q ↔ (zhas 59 (hk h a) = true ∧ WP 234 0 49 L (hm h a 59 :: S) h Q) := wp_if rfl rfl rfl
theorem s234_49 : WP 234 0 49 L (vI x :: vA (some a) :: S) h Q ↔ (((hk h a).1 = 1 ∧ 0 ≤ x ∧ x < ((hk h a).2 : Int)) ∧ WP 234 0 50 L (hm h a x.toNat :: S) h Q) := wp_if rfl rfl rfl
theorem s234_50 : WP 234 0 50 L [vI x] h Q ↔ Q (.inl (some (vI x))) h := wp_iret0 rfl rfl
/-! RepeatFreeModel.power(IIIJ)I -/
theorem s235_0 : WP 235 0 0 [vA r, a1, a2, a3, a4, a5] S h Q ↔ WP 235 0 1 [vA r, a1, a2, a3, a4, a5] (vA r :: S) h Q := wp_aload rfl rfl
theorem s235_1 : WP 235 0 1 L S h Q ↔ WP 235 0 2 L (vI 0 :: S) h Q := wp_pl rfl rfl rfl
theorem s235_2 : WP 235 0 2 L (vI x :: vA (some a) :: S) h Q ↔ ((zNC ≤ a ∧ zhas 45 (hk h a) = true) ∧ WP 235 0 5 L S (hput h a 45 (vI x)) Q) := wp_put0 rfl rfl
theorem s235_5 : WP 235 0 5 [vA r, a1, a2, a3, a4, a5] S h Q ↔ WP 235 0 6 [vA r, a1, a2, a3, a4, a5] (vA r :: S) h Q := wp_aload rfl rfl
theorem s235_6 : WP 235 0 6 [a0, vI x, a2, a3, a4, a5] S h Q ↔ WP 235 0 7 [a0, vI x, a2, a3, a4, a5] (vI x :: S) h Q := wp_iload rfl rfl
theorem s235_7 : WP 235 0 7 [a0, a1, vI x, a3, a4, a5] S h Q ↔ WP 235 0 8 [a0, a1, vI x, a3, a4, a5] (vI x :: S) h Q := wp_iload rfl rfl
theorem s235_8 : WP 235 0 8 [a0, a1, a2, vI x, a4, a5] S h Q ↔ WP 235 0 9 [a0, a1, a2, vI x, a4, a5] (vI x :: S) h Q := wp_iload rfl rfl
theorem s235_9 : WP 235 0 9 L (vI x2 :: vI x1 :: vI x0 :: vA (some a) :: S) h Q ↔ ((hk h a).1 = 110 ∧ (zw S ≤ 8 ∧ WP 225 0 0 [vA (some a), vI x0, vI x1, vI x2] [] h (zret 235 0 9 12 L S Q))) := wp_V1 (c := 110) rfl rfl (fun _ => rfl) rfl rfl (zcan_of rfl rfl) rfl rfl rfl
theorem s235_12 : WP 235 0 12 L (vI x :: S) h Q ↔ zif (x = 0) (WP 235 0 17 L S h Q) (WP 235 0 15 L S h Q) := wp_bE zc_eq rfl rfl rfl
theorem s235_15 : WP 235 0 15 L S h Q ↔ WP 235 0 16 L (vI 0 :: S) h Q := wp_pl rfl rfl rfl
theorem s235_16 : WP 235 0 16 L [vI x] h Q ↔ Q (.inl (some (vI x))) h := wp_iret0 rfl rfl
theorem s235_17 : WP 235 0 17 [vA r, a1, a2, a3, a4, a5] S h Q ↔ WP 235 0 18 [vA r, a1, a2, a3, a4, a5] (vA r :: S) h Q := wp_aload rfl rfl
theorem s235_18 : WP 235 0 18 [a0, vI x, a2, a3, a4, a5] S h Q ↔ WP 235 0 19 [a0, vI x, a2, a3, a4, a5] (vI x :: S) h Q := wp_iload rfl rfl
theorem s235_19 : WP 235 0 19 [a0, a1, a2, vI x, a4, a5] S h Q ↔ WP 235 0 20 [a0, a1, a2, vI x, a4, a5] (vI x :: S) h Q := wp_iload rfl rfl
theorem s235_20 : WP 235 0 20 L (vI x1 :: vI x0 :: vA (some a) :: S) h Q ↔ ((hk h a).1 = 110 ∧ (zw S ≤ 8 ∧ WP 197 0 0 [vA (some a), vI x0, vI x1, vJ, vJ, vJ, vJ] [] h (zret 235 0 20 23 L S Q))) := wp_V1 (c := 110) rfl rfl (fun _ => rfl) rfl rfl (zcan_of rfl rfl) rfl rfl rfl
theorem s235_23 : WP 235 0 23 [a0, a1, a2, a3, vL x, vJ] S h Q ↔ WP 235 0 25 [a0, a1, a2, a3, vL x, vJ] (vL x :: S) h Q := wp_lload rfl rfl rfl
theorem s235_25 : WP 235 0 25 L S h Q ↔ WP 235 0 26 L (vL 0 :: S) h Q := wp_pl rfl rfl rfl
theorem s235_26 : WP 235 0 26 L (vL y :: vL x :: S) h Q ↔ WP 235 0 27 L (vI (zlc x y) :: S) h Q := wp_pl rfl rfl rfl
theorem s235_27 : WP 235 0 27 L (vI x :: S) h Q ↔ zif (x < 0) (WP 235 0 42 L S h Q) (WP 235 0 30 L S h Q) := wp_bE zc_lt rfl rfl rfl
theorem s235_30 : WP 235 0 30 [a0, a1, a2, a3, vL x, vJ] S h Q ↔ WP 235 0 32 [a0, a1, a2, a3, vL x, vJ] (vL x :: S) h Q := wp_lload rfl rfl rfl
theorem s235_32 : WP 235 0 32 [vA r, a1, a2, a3, a4, a5] S h Q ↔ WP 235 0 33 [vA r, a1, a2, a3, a4, a5] (vA r :: S) h Q := wp_aload rfl rfl
theorem s235_33 : WP 235 0 33 [a0, a1, a2, vI x, a4, a5] S h Q ↔ WP 235 0 34 [a0, a1, a2, vI x, a4, a5] (vI x :: S) h Q := wp_iload rfl rfl
theorem s235_34 : WP 235 0 34 [a0, a1, vI x, a3, a4, a5] S h Q ↔ WP 235 0 35 [a0, a1, vI x, a3, a4, a5] (vI x :: S) h Q := wp_iload rfl rfl
theorem s235_35 : WP 235 0 35 L (vI x1 :: vI x0 :: vA (some a) :: S) h Q ↔ ((hk h a).1 = 110 ∧ (zw S ≤ 8 ∧ WP 200 0 0 [vA (some a), vI x0, vI x1, vJ, vJ, vJ] [] h (zret 235 0 35 38 L S Q))) := wp_V1 (c := 110) rfl rfl (fun _ => rfl) rfl rfl (zcan_of rfl rfl) rfl rfl rfl
theorem s235_38 : WP 235 0 38 L (vL y :: vL x :: S) h Q ↔ WP 235 0 39 L (vI (zlc x y) :: S) h Q := wp_pl rfl rfl rfl
theorem s235_39 : WP 235 0 39 L (vI x :: S) h Q ↔ zif (x < 0) (WP 235 0 44 L S h Q) (WP 235 0 42 L S h Q) := wp_bE zc_lt rfl rfl rfl
theorem s235_42 : WP 235 0 42 L S h Q ↔ WP 235 0 43 L (vI (-1) :: S) h Q := wp_pl rfl rfl rfl
theorem s235_43 : WP 235 0 43 L [vI x] h Q ↔ Q (.inl (some (vI x))) h := wp_iret0 rfl rfl
theorem s235_44 : WP 235 0 44 [vA r, a1, a2, a3, a4, a5] S h Q ↔ WP 235 0 45 [vA r, a1, a2, a3, a4, a5] (vA r :: S) h Q := wp_aload rfl rfl
theorem s235_45 : WP 235 0 45 [a0, vI x, a2, a3, a4, a5] S h Q ↔ WP 235 0 46 [a0, vI x, a2, a3, a4, a5] (vI x :: S) h Q := wp_iload rfl rfl
theorem s235_46 : WP 235 0 46 [a0, a1, vI x, a3, a4, a5] S h Q ↔ WP 235 0 47 [a0, a1, vI x, a3, a4, a5] (vI x :: S) h Q := wp_iload rfl rfl
theorem s235_47 : WP 235 0 47 [a0, a1, a2, vI x, a4, a5] S h Q ↔ WP 235 0 48 [a0, a1, a2, vI x, a4, a5] (vI x :: S) h Q := wp_iload rfl rfl
theorem s235_48 : WP 235 0 48 [a0, a1, a2, a3, vL x, vJ] S h Q ↔ WP 235 0 50 [a0, a1, a2, a3, vL x, vJ] (vL x :: S) h Q := wp_lload rfl rfl rfl
theorem s235_50 : WP 235 0 50 L (vL x3 :: vI x2 :: vI x1 :: vI x0 :: vA (some a) :: S) h Q ↔ ((hk h a).1 = 110 ∧ (zw S ≤ 8 ∧ WP 233 0 0 [vA (some a), vI x0, vI x1, vI x2, vL x3, vJ, vJ, vJ, vJ, vJ, vJ] [] h (zret 235 0 50 53 L S Q))) := wp_V1 (c := 110) rfl rfl (fun _ => rfl) rfl rfl (zcan_of rfl rfl) rfl rfl rfl
theorem s235_53 : WP 235 0 53 L [vI x] h Q ↔ Q (.inl (some (vI x))) h := wp_iret0 rfl rfl
/-! RepeatFreeModel.push(I)I -/
theorem s236_0 : WP 236 0 0 [vA r, a1] S h Q ↔ WP 236 0 1 [vA r, a1] (vA r :: S) h Q := wp_aload rfl rfl
theorem s236_1 : WP 236 0 1 L S h Q ↔ WP 236 0 2 L (vI 0 :: S) h Q := wp_pl rfl rfl rfl
theorem s236_2 : WP 236 0 2 L (vI x :: vA (some a) :: S) h Q ↔ ((zNC ≤ a ∧ zhas 45 (hk h a) = true) ∧ WP 236 0 5 L S (hput h a 45 (vI x)) Q) := wp_put0 rfl rfl
theorem s236_5 : WP 236 0 5 [vA r, a1] S h Q ↔ WP 236 0 6 [vA r, a1] (vA r :: S) h Q := wp_aload rfl rfl
theorem s236_6 : WP 236 0 6 [a0, vI x] S h Q ↔ WP 236 0 7 [a0, vI x] (vI x :: S) h Q := wp_iload rfl rfl
theorem s236_7 : WP 236 0 7 L S h Q ↔ WP 236 0 8 L (vI 1 :: S) h Q := wp_pl rfl rfl rfl
theorem s236_8 : WP 236 0 8 L (vI x1 :: vI x0 :: vA (some a) :: S) h Q ↔ ((hk h a).1 = 110 ∧ (zw S ≤ 8 ∧ WP 222 0 0 [vA (some a), vI x0, vI x1] [] h (zret 236 0 8 11 L S Q))) := wp_V1 (c := 110) rfl rfl (fun _ => rfl) rfl rfl (zcan_of rfl rfl) rfl rfl rfl
theorem s236_11 : WP 236 0 11 L (vI x :: S) h Q ↔ zif (x = 0) (WP 236 0 14 L S h Q) (WP 236 0 36 L S h Q) := wp_bN zc_eq rfl rfl rfl
theorem s236_14 : WP 236 0 14 [vA r, a1] S h Q ↔ WP 236 0 15 [vA r, a1] (vA r :: S) h Q := wp_aload rfl rfl
theorem s236_15 : WP 236 0 15 [vA r, a1] S h Q ↔ WP 236 0 16 [vA r, a1] (vA r :: S) h Q := wp_aload rfl rfl
theorem s236_16 : WP 236 0 16 L (vA (some a) :: S) h Q ↔ (zhas 59 (hk h a) = true ∧ WP 236 0 19 L (hm h a 59 :: S) h Q) := wp_if rfl rfl rfl
theorem s236_19 : WP 236 0 19 L S h Q ↔ WP 236 0 21 L (vI 64 :: S) h Q := wp_pl rfl rfl rfl
theorem s236_21 : WP 236 0 21 L (vI y :: vI x :: S) h Q ↔ zif (x = y) (WP 236 0 24 L S h Q) (WP 236 0 28 L S h Q) := wp_bN zc_eq rfl rfl rfl
theorem s236_24 : WP 236 0 24 L S h Q ↔ WP 236 0 25 L (vI 1 :: S) h Q := wp_pl rfl rfl rfl
theorem s236_25 : WP 236 0 25 L S h Q ↔ WP 236 0 29 L S h Q := wp_pl rfl rfl rfl
theorem s236_28 : WP 236 0 28 L S h Q ↔ WP 236 0 29 L (vI 0 :: S) h Q := wp_pl rfl rfl rfl
theorem s236_29 : WP 236 0 29 L S h Q ↔ WP 236 0 30 L (vI 2 :: S) h Q := wp_pl rfl rfl rfl
theorem s236_30 : WP 236 0 30 L (vI x1 :: vI x0 :: vA (some a) :: S) h Q ↔ ((hk h a).1 = 110 ∧ (zw S ≤ 8 ∧ WP 248 0 0 [vA (some a), vI x0, vI x1] [] h (zret 236 0 30 33 L S Q))) := wp_V1 (c := 110) rfl rfl (fun _ => rfl) rfl rfl (zcan_of rfl rfl) rfl rfl rfl
theorem s236_33 : WP 236 0 33 L (vI x :: S) h Q ↔ zif (x = 0) (WP 236 0 38 L S h Q) (WP 236 0 36 L S h Q) := wp_bE zc_eq rfl rfl rfl
theorem s236_36 : WP 236 0 36 L S h Q ↔ WP 236 0 37 L (vI 0 :: S) h Q := wp_pl rfl rfl rfl
theorem s236_37 : WP 236 0 37 L [vI x] h Q ↔ Q (.inl (some (vI x))) h := wp_iret0 rfl rfl
theorem s236_38 : WP 236 0 38 [vA r, a1] S h Q ↔ WP 236 0 39 [vA r, a1] (vA r :: S) h Q := wp_aload rfl rfl
theorem s236_39 : WP 236 0 39 L (vA (some a) :: S) h Q ↔ ((hk h a).1 = 110 ∧ (zw S ≤ 8 ∧ WP 195 0 0 [vA (some a), vJ, vJ] [] h (zret 236 0 39 42 L S Q))) := wp_V1 (c := 110) rfl rfl (fun _ => rfl) rfl rfl (zcan_of rfl rfl) rfl rfl rfl
theorem s236_42 : WP 236 0 42 [vA r, a1] S h Q ↔ WP 236 0 43 [vA r, a1] (vA r :: S) h Q := wp_aload rfl rfl
theorem s236_43 : WP 236 0 43 L (vA (some a) :: S) h Q ↔ (zhas 57 (hk h a) = true ∧ WP 236 0 46 L (hm h a 57 :: S) h Q) := wp_if rfl rfl rfl
theorem s236_46 : WP 236 0 46 [vA r, a1] S h Q ↔ WP 236 0 47 [vA r, a1] (vA r :: S) h Q := wp_aload rfl rfl
theorem s236_47 : WP 236 0 47 L (vA (some a) :: S) h Q ↔ (zhas 59 (hk h a) = true ∧ WP 236 0 50 L (hm h a 59 :: S) h Q) := wp_if rfl rfl rfl
theorem s236_50 : WP 236 0 50 [a0, vI x] S h Q ↔ WP 236 0 51 [a0, vI x] (vI x :: S) h Q := wp_iload rfl rfl
theorem s236_51 : WP 236 0 51 L (vI y :: vI x :: vA (some a) :: S) h Q ↔ (((hk h a).1 = 1 ∧ (0 ≤ x ∧ x < ((hk h a).2 : Int)) ∧ zNC ≤ a) ∧ WP 236 0 52 L S (hput h a x.toNat (vI y)) Q) := wp_if rfl rfl rfl
theorem s236_52 : WP 236 0 52 [vA r, a1] S h Q ↔ WP 236 0 53 [vA r, a1] (vA r :: S) h Q := wp_aload rfl rfl
theorem s236_53 : WP 236 0 53 L (vA r :: S) h Q ↔ WP 236 0 54 L (vA r :: vA r :: S) h Q := wp_pl rfl rfl rfl
theorem s236_53i : WP 236 0 53 L (vI x :: S) h Q ↔ WP 236 0 54 L (vI x :: vI x :: S) h Q := wp_pl rfl rfl rfl
theorem s236_54 : WP 236 0 54 L (vA (some a) :: S) h Q ↔ (zhas 59 (hk h a) = true ∧ WP 236 0 57 L (hm h a 59 :: S) h Q) := wp_if rfl rfl rfl
theorem s236_57 : WP 236 0 57 L S h Q ↔ WP 236 0 58 L (vI 1 :: S) h Q := wp_pl rfl rfl rfl
theorem s236_58 : WP 236 0 58 L (vI y :: vI x :: S) h Q ↔ WP 236 0 59 L (vI (wr (x + y)) :: S) h Q := wp_pl rfl rfl rfl
theorem s236_59 : WP 236 0 59 L (vI x :: vA (some a) :: S) h Q ↔ ((zNC ≤ a ∧ zhas 59 (hk h a) = true) ∧ WP 236 0 62 L S (hput h a 59 (vI x)) Q) := wp_put0 rfl rfl
theorem s236_62 : WP 236 0 62 [vA r, a1] S h Q ↔ WP 236 0 63 [vA r, a1] (vA r :: S) h Q := wp_aload rfl rfl
theorem s236_63 : WP 236 0 63 L (vA (some a) :: S) h Q ↔ (zhas 59 (hk h a) = true ∧ WP 236 0 66 L (hm h a 59 :: S) h Q) := wp_if rfl rfl rfl
theorem s236_66 : WP 236 0 66 L [vI x] h Q ↔ Q (.inl (some (vI x))) h := wp_iret0 rfl rfl
/-! RepeatFreeModel.rank()I -/
theorem s237_0 : WP 237 0 0 [vA r] S h Q ↔ WP 237 0 1 [vA r] (vA r :: S) h Q := wp_aload rfl rfl
theorem s237_1 : WP 237 0 1 L S h Q ↔ WP 237 0 2 L (vI 0 :: S) h Q := wp_pl rfl rfl rfl
theorem s237_2 : WP 237 0 2 L (vI x :: vA (some a) :: S) h Q ↔ ((zNC ≤ a ∧ zhas 45 (hk h a) = true) ∧ WP 237 0 5 L S (hput h a 45 (vI x)) Q) := wp_put0 rfl rfl
theorem s237_5 : WP 237 0 5 [vA r] S h Q ↔ WP 237 0 6 [vA r] (vA r :: S) h Q := wp_aload rfl rfl
theorem s237_6 : WP 237 0 6 [vA r] S h Q ↔ WP 237 0 7 [vA r] (vA r :: S) h Q := wp_aload rfl rfl
theorem s237_7 : WP 237 0 7 L (vA (some a) :: S) h Q ↔ (zhas 59 (hk h a) = true ∧ WP 237 0 10 L (hm h a 59 :: S) h Q) := wp_if rfl rfl rfl
theorem s237_10 : WP 237 0 10 L S h Q ↔ WP 237 0 12 L (vI 40 :: S) h Q := wp_pl rfl rfl rfl
theorem s237_12 : WP 237 0 12 L (vI y :: vI x :: S) h Q ↔ zif (y < x) (WP 237 0 15 L S h Q) (WP 237 0 19 L S h Q) := wp_bN zc_gt rfl rfl rfl
theorem s237_15 : WP 237 0 15 L S h Q ↔ WP 237 0 16 L (vI 1 :: S) h Q := wp_pl rfl rfl rfl
theorem s237_16 : WP 237 0 16 L S h Q ↔ WP 237 0 20 L S h Q := wp_pl rfl rfl rfl
theorem s237_19 : WP 237 0 19 L S h Q ↔ WP 237 0 20 L (vI 0 :: S) h Q := wp_pl rfl rfl rfl
theorem s237_20 : WP 237 0 20 L S h Q ↔ WP 237 0 21 L (vI 1 :: S) h Q := wp_pl rfl rfl rfl
theorem s237_21 : WP 237 0 21 L (vI x1 :: vI x0 :: vA (some a) :: S) h Q ↔ ((hk h a).1 = 110 ∧ (zw S ≤ 8 ∧ WP 248 0 0 [vA (some a), vI x0, vI x1] [] h (zret 237 0 21 24 L S Q))) := wp_V1 (c := 110) rfl rfl (fun _ => rfl) rfl rfl (zcan_of rfl rfl) rfl rfl rfl
theorem s237_24 : WP 237 0 24 L (vI x :: S) h Q ↔ zif (x = 0) (WP 237 0 29 L S h Q) (WP 237 0 27 L S h Q) := wp_bE zc_eq rfl rfl rfl
theorem s237_27 : WP 237 0 27 L S h Q ↔ WP 237 0 28 L (vI 0 :: S) h Q := wp_pl rfl rfl rfl
theorem s237_28 : WP 237 0 28 L [vI x] h Q ↔ Q (.inl (some (vI x))) h := wp_iret0 rfl rfl
theorem s237_29 : WP 237 0 29 [vA r] S h Q ↔ WP 237 0 30 [vA r] (vA r :: S) h Q := wp_aload rfl rfl
theorem s237_30 : WP 237 0 30 [vA r] S h Q ↔ WP 237 0 31 [vA r] (vA r :: S) h Q := wp_aload rfl rfl
theorem s237_31 : WP 237 0 31 L (vA (some a) :: S) h Q ↔ (zhas 59 (hk h a) = true ∧ WP 237 0 34 L (hm h a 59 :: S) h Q) := wp_if rfl rfl rfl
theorem s237_34 : WP 237 0 34 L S h Q ↔ WP 237 0 35 L (vI 3 :: S) h Q := wp_pl rfl rfl rfl
theorem s237_35 : WP 237 0 35 L (vI x1 :: vI x0 :: vA (some a) :: S) h Q ↔ ((hk h a).1 = 110 ∧ (zw S ≤ 8 ∧ WP 152 0 0 [vA (some a), vI x0, vI x1, vJ] [] h (zret 237 0 35 38 L S Q))) := wp_V1 (c := 110) rfl rfl (fun _ => rfl) rfl rfl (zcan_of rfl rfl) rfl rfl rfl
theorem s237_38 : WP 237 0 38 L [vI x] h Q ↔ Q (.inl (some (vI x))) h := wp_iret0 rfl rfl
/-! RepeatFreeModel.read()I -/
theorem s238_0 : WP 238 0 0 [vA r, a1] S h Q ↔ WP 238 0 1 [vA r, a1] (vA r :: S) h Q := wp_aload rfl rfl
theorem s238_1 : WP 238 0 1 L S h Q ↔ WP 238 0 2 L (vI 0 :: S) h Q := wp_pl rfl rfl rfl
theorem s238_2 : WP 238 0 2 L (vI x :: vA (some a) :: S) h Q ↔ ((zNC ≤ a ∧ zhas 45 (hk h a) = true) ∧ WP 238 0 5 L S (hput h a 45 (vI x)) Q) := wp_put0 rfl rfl
theorem s238_5 : WP 238 0 5 [vA r, a1] S h Q ↔ WP 238 0 6 [vA r, a1] (vA r :: S) h Q := wp_aload rfl rfl
theorem s238_6 : WP 238 0 6 L (vA (some a) :: S) h Q ↔ ((hk h a).1 = 110 ∧ (zw S ≤ 8 ∧ WP 144 0 0 [vA (some a)] [] h (zret 238 0 6 9 L S Q))) := wp_V1 (c := 110) rfl rfl (fun _ => rfl) rfl rfl (zcan_of rfl rfl) rfl rfl rfl
theorem s238_9 : WP 238 0 9 L S h Q ↔ WP 238 0 10 L (vI 0 :: S) h Q := wp_pl rfl rfl rfl
theorem s238_10 : WP 238 0 10 [a0, a1] (vI x :: S) h Q ↔ WP 238 0 11 [a0, vI x] S h Q := wp_istore rfl rfl rfl
theorem s238_11 : WP 238 0 11 [a0, vI x] S h Q ↔ WP 238 0 12 [a0, vI x] (vI x :: S) h Q := wp_iload rfl rfl
theorem s238_12 : WP 238 0 12 L S h Q ↔ WP 238 0 15 L (vI 198 :: S) h Q := wp_pl rfl rfl rfl
theorem s238_15 : WP 238 0 15 L (vI y :: vI x :: S) h Q ↔ zif (x < y) (WP 238 0 18 L S h Q) (WP 238 0 31 L S h Q) := wp_bN zc_lt rfl rfl rfl
theorem s238_18 : WP 238 0 18 [vA r, a1] S h Q ↔ WP 238 0 19 [vA r, a1] (vA r :: S) h Q := wp_aload rfl rfl
theorem s238_19 : WP 238 0 19 L (vA (some a) :: S) h Q ↔ (zhas 55 (hk h a) = true ∧ WP 238 0 22 L (hm h a 55 :: S) h Q) := wp_if rfl rfl rfl
theorem s238_22 : WP 238 0 22 [a0, vI x] S h Q ↔ WP 238 0 23 [a0, vI x] (vI x :: S) h Q := wp_iload rfl rfl
theorem s238_23 : WP 238 0 23 L S h Q ↔ WP 238 0 24 L (vI 0 :: S) h Q := wp_pl rfl rfl rfl
theorem s238_24 : WP 238 0 24 L (vI y :: vI x :: vA (some a) :: S) h Q ↔ (((hk h a).1 = 1 ∧ (0 ≤ x ∧ x < ((hk h a).2 : Int)) ∧ zNC ≤ a) ∧ WP 238 0 25 L S (hput h a x.toNat (vI y)) Q) := wp_if rfl rfl rfl
theorem s238_25 : WP 238 0 25 [a0, vI x] S h Q ↔ WP 238 0 28 [a0, vI (wr (x + 1))] S h Q := wp_iinc rfl rfl rfl
theorem s238_28 : WP 238 0 28 L S h Q ↔ WP 238 0 11 L S h Q := wp_pl rfl rfl rfl
theorem s238_31 : WP 238 0 31 [vA r, a1] S h Q ↔ WP 238 0 32 [vA r, a1] (vA r :: S) h Q := wp_aload rfl rfl
theorem s238_32 : WP 238 0 32 L S h Q ↔ WP 238 0 33 L (vI 0 :: S) h Q := wp_pl rfl rfl rfl
theorem s238_33 : WP 238 0 33 L (vI x :: vA (some a) :: S) h Q ↔ ((zNC ≤ a ∧ zhas 56 (hk h a) = true ∧ (x = 0 ∨ x = 1)) ∧ WP 238 0 36 L S (hput h a 56 (vI x)) Q) := wp_put1 rfl rfl
theorem s238_36 : WP 238 0 36 [vA r, a1] S h Q ↔ WP 238 0 37 [vA r, a1] (vA r :: S) h Q := wp_aload rfl rfl
theorem s238_37 : WP 238 0 37 L (vA (some a) :: S) h Q ↔ ((hk h a).1 = 110 ∧ (zw S ≤ 8 ∧ WP 145 0 0 [vA (some a)] [] h (zret 238 0 37 40 L S Q))) := wp_V1 (c := 110) rfl rfl (fun _ => rfl) rfl rfl (zcan_of rfl rfl) rfl rfl rfl
theorem s238_40 : WP 238 0 40 [vA r, a1] S h Q ↔ WP 238 0 41 [vA r, a1] (vA r :: S) h Q := wp_aload rfl rfl
theorem s238_41 : WP 238 0 41 L (vA (some a) :: S) h Q ↔ ((hk h a).1 = 110 ∧ (zw S ≤ 8 ∧ WP 177 0 0 [vA (some a)] [] h (zret 238 0 41 44 L S Q))) := wp_V1 (c := 110) rfl rfl (fun _ => rfl) rfl rfl (zcan_of rfl rfl) rfl rfl rfl
theorem s238_44 : WP 238 0 44 L (vI x :: S) h Q ↔ zif (x = 0) (WP 238 0 47 L S h Q) (WP 238 0 69 L S h Q) := wp_bN zc_eq rfl rfl rfl
theorem s238_47 : WP 238 0 47 [vA r, a1] S h Q ↔ WP 238 0 48 [vA r, a1] (vA r :: S) h Q := wp_aload rfl rfl
theorem s238_48 : WP 238 0 48 L (vA (some a) :: S) h Q ↔ (zhas 49 (hk h a) = true ∧ WP 238 0 51 L (hm h a 49 :: S) h Q) := wp_if rfl rfl rfl
theorem s238_51 : WP 238 0 51 [vA r, a1] S h Q ↔ WP 238 0 52 [vA r, a1] (vA r :: S) h Q := wp_aload rfl rfl
theorem s238_52 : WP 238 0 52 L (vA (some a) :: S) h Q ↔ (zhas 51 (hk h a) = true ∧ WP 238 0 55 L (hm h a 51 :: S) h Q) := wp_if rfl rfl rfl
theorem s238_55 : WP 238 0 55 L (vI y :: vI x :: S) h Q ↔ zif (x < y) (WP 238 0 58 L S h Q) (WP 238 0 69 L S h Q) := wp_bN zc_lt rfl rfl rfl
theorem s238_58 : WP 238 0 58 [vA r, a1] S h Q ↔ WP 238 0 59 [vA r, a1] (vA r :: S) h Q := wp_aload rfl rfl
theorem s238_59 : WP 238 0 59 L (vA (some a) :: S) h Q ↔ ((hk h a).1 = 110 ∧ (zw S ≤ 8 ∧ WP 207 0 0 [vA (some a), vJ] [] h (zret 238 0 59 62 L S Q))) := wp_V1 (c := 110) rfl rfl (fun _ => rfl) rfl rfl (zcan_of rfl rfl) rfl rfl rfl
theorem s238_62 : WP 238 0 62 [vA r, a1] S h Q ↔ WP 238 0 63 [vA r, a1] (vA r :: S) h Q := wp_aload rfl rfl
theorem s238_63 : WP 238 0 63 L (vA (some a) :: S) h Q ↔ ((hk h a).1 = 110 ∧ (zw S ≤ 8 ∧ WP 145 0 0 [vA (some a)] [] h (zret 238 0 63 66 L S Q))) := wp_V1 (c := 110) rfl rfl (fun _ => rfl) rfl rfl (zcan_of rfl rfl) rfl rfl rfl
theorem s238_66 : WP 238 0 66 L S h Q ↔ WP 238 0 40 L S h Q := wp_pl rfl rfl rfl
theorem s238_69 : WP 238 0 69 [vA r, a1] S h Q ↔ WP 238 0 70 [vA r, a1] (vA r :: S) h Q := wp_aload rfl rfl
theorem s238_70 : WP 238 0 70 L (vA (some a) :: S) h Q ↔ ((hk h a).1 = 110 ∧ (zw S ≤ 8 ∧ WP 177 0 0 [vA (some a)] [] h (zret 238 0 70 73 L S Q))) := wp_V1 (c := 110) rfl rfl (fun _ => rfl) rfl rfl (zcan_of rfl rfl) rfl rfl rfl
theorem s238_73 : WP 238 0 73 L (vI x :: S) h Q ↔ zif (x = 0) (WP 238 0 76 L S h Q) (WP 238 0 89 L S h Q) := wp_bN zc_eq rfl rfl rfl
theorem s238_76 : WP 238 0 76 [vA r, a1] S h Q ↔ WP 238 0 77 [vA r, a1] (vA r :: S) h Q := wp_aload rfl rfl
theorem s238_77 : WP 238 0 77 L (vA (some a) :: S) h Q ↔ (zhas 55 (hk h a) = true ∧ WP 238 0 80 L (hm h a 55 :: S) h Q) := wp_if rfl rfl rfl
theorem s238_80 : WP 238 0 80 L S h Q ↔ WP 238 0 81 L (vI 0 :: S) h Q := wp_pl rfl rfl rfl
theorem s238_81 : WP 238 0 81 L (vI x :: vA (some a) :: S) h Q ↔ (((hk h a).1 = 1 ∧ 0 ≤ x ∧ x < ((hk h a).2 : Int)) ∧ WP 238 0 82 L (hm h a x.toNat :: S) h Q) := wp_if rfl rfl rfl
theorem s238_82 : WP 238 0 82 L (vI x :: S) h Q ↔ zif (x = 0) (WP 238 0 85 L S h Q) (WP 238 0 89 L S h Q) := wp_bN zc_eq rfl rfl rfl
theorem s238_85 : WP 238 0 85 [vA r, a1] S h Q ↔ WP 238 0 86 [vA r, a1] (vA r :: S) h Q := wp_aload rfl rfl
theorem s238_86 : WP 238 0 86 L (vA (some a) :: S) h Q ↔ ((hk h a).1 = 110 ∧ (zw S ≤ 8 ∧ WP 161 0 0 [vA (some a)] [] h (zret 238 0 86 89 L S Q))) := wp_V1 (c := 110) rfl rfl (fun _ => rfl) rfl rfl (zcan_of rfl rfl) rfl rfl rfl
theorem s238_89 : WP 238 0 89 [vA r, a1] S h Q ↔ WP 238 0 90 [vA r, a1] (vA r :: S) h Q := wp_aload rfl rfl
theorem s238_90 : WP 238 0 90 [vA r, a1] S h Q ↔ WP 238 0 91 [vA r, a1] (vA r :: S) h Q := wp_aload rfl rfl
theorem s238_91 : WP 238 0 91 L (vA (some a) :: S) h Q ↔ (zhas 52 (hk h a) = true ∧ WP 238 0 94 L (hm h a 52 :: S) h Q) := wp_if rfl rfl rfl
theorem s238_94 : WP 238 0 94 L (vI x :: vA (some a) :: S) h Q ↔ ((zNC ≤ a ∧ zhas 53 (hk h a) = true) ∧ WP 238 0 97 L S (hput h a 53 (vI x)) Q) := wp_put0 rfl rfl
theorem s238_97 : WP 238 0 97 [vA r, a1] S h Q ↔ WP 238 0 98 [vA r, a1] (vA r :: S) h Q := wp_aload rfl rfl
theorem s238_98 : WP 238 0 98 [vA r, a1] S h Q ↔ WP 238 0 99 [vA r, a1] (vA r :: S) h Q := wp_aload rfl rfl
theorem s238_99 : WP 238 0 99 L (vA (some a) :: S) h Q ↔ ((hk h a).1 = 110 ∧ (zw S ≤ 8 ∧ WP 177 0 0 [vA (some a)] [] h (zret 238 0 99 102 L S Q))) := wp_V1 (c := 110) rfl rfl (fun _ => rfl) rfl rfl (zcan_of rfl rfl) rfl rfl rfl
theorem s238_102 : WP 238 0 102 L S h Q ↔ WP 238 0 103 L (vI 1 :: S) h Q := wp_pl rfl rfl rfl
theorem s238_103 : WP 238 0 103 L (vI x1 :: vI x0 :: vA (some a) :: S) h Q ↔ ((hk h a).1 = 110 ∧ (zw S ≤ 8 ∧ WP 248 0 0 [vA (some a), vI x0, vI x1] [] h (zret 238 0 103 106 L S Q))) := wp_V1 (c := 110) rfl rfl (fun _ => rfl) rfl rfl (zcan_of rfl rfl) rfl rfl rfl
theorem s238_106 : WP 238 0 106 L (vI x :: S) h Q ↔ zif (x = 0) (WP 238 0 111 L S h Q) (WP 238 0 109 L S h Q) := wp_bE zc_eq rfl rfl rfl
theorem s238_109 : WP 238 0 109 L S h Q ↔ WP 238 0 110 L (vI 0 :: S) h Q := wp_pl rfl rfl rfl
theorem s238_110 : WP 238 0 110 L [vI x] h Q ↔ Q (.inl (some (vI x))) h := wp_iret0 rfl rfl
theorem s238_111 : WP 238 0 111 L S h Q ↔ WP 238 0 112 L (vI 0 :: S) h Q := wp_pl rfl rfl rfl
theorem s238_112 : WP 238 0 112 [a0, a1] (vI x :: S) h Q ↔ WP 238 0 113 [a0, vI x] S h Q := wp_istore rfl rfl rfl
theorem s238_113 : WP 238 0 113 [a0, vI x] S h Q ↔ WP 238 0 114 [a0, vI x] (vI x :: S) h Q := wp_iload rfl rfl
theorem s238_114 : WP 238 0 114 L S h Q ↔ WP 238 0 117 L (vI 198 :: S) h Q := wp_pl rfl rfl rfl
theorem s238_117 : WP 238 0 117 L (vI y :: vI x :: S) h Q ↔ zif (x < y) (WP 238 0 120 L S h Q) (WP 238 0 138 L S h Q) := wp_bN zc_lt rfl rfl rfl
theorem s238_120 : WP 238 0 120 [vA r, a1] S h Q ↔ WP 238 0 121 [vA r, a1] (vA r :: S) h Q := wp_aload rfl rfl
theorem s238_121 : WP 238 0 121 L (vA (some a) :: S) h Q ↔ (zhas 54 (hk h a) = true ∧ WP 238 0 124 L (hm h a 54 :: S) h Q) := wp_if rfl rfl rfl
theorem s238_124 : WP 238 0 124 [a0, vI x] S h Q ↔ WP 238 0 125 [a0, vI x] (vI x :: S) h Q := wp_iload rfl rfl
theorem s238_125 : WP 238 0 125 [vA r, a1] S h Q ↔ WP 238 0 126 [vA r, a1] (vA r :: S) h Q := wp_aload rfl rfl
theorem s238_126 : WP 238 0 126 L (vA (some a) :: S) h Q ↔ (zhas 55 (hk h a) = true ∧ WP 238 0 129 L (hm h a 55 :: S) h Q) := wp_if rfl rfl rfl
theorem s238_129 : WP 238 0 129 [a0, vI x] S h Q ↔ WP 238 0 130 [a0, vI x] (vI x :: S) h Q := wp_iload rfl rfl
theorem s238_130 : WP 238 0 130 L (vI x :: vA (some a) :: S) h Q ↔ (((hk h a).1 = 1 ∧ 0 ≤ x ∧ x < ((hk h a).2 : Int)) ∧ WP 238 0 131 L (hm h a x.toNat :: S) h Q) := wp_if rfl rfl rfl
theorem s238_131 : WP 238 0 131 L (vI y :: vI x :: vA (some a) :: S) h Q ↔ (((hk h a).1 = 1 ∧ (0 ≤ x ∧ x < ((hk h a).2 : Int)) ∧ zNC ≤ a) ∧ WP 238 0 132 L S (hput h a x.toNat (vI y)) Q) := wp_if rfl rfl rfl
theorem s238_132 : WP 238 0 132 [a0, vI x] S h Q ↔ WP 238 0 135 [a0, vI (wr (x + 1))] S h Q := wp_iinc rfl rfl rfl
theorem s238_135 : WP 238 0 135 L S h Q ↔ WP 238 0 113 L S h Q := wp_pl rfl rfl rfl
theorem s238_138 : WP 238 0 138 [vA r, a1] S h Q ↔ WP 238 0 139 [vA r, a1] (vA r :: S) h Q := wp_aload rfl rfl
theorem s238_139 : WP 238 0 139 L S h Q ↔ WP 238 0 140 L (vI 0 :: S) h Q := wp_pl rfl rfl rfl
theorem s238_140 : WP 238 0 140 L (vI x :: vA (some a) :: S) h Q ↔ ((zNC ≤ a ∧ zhas 59 (hk h a) = true) ∧ WP 238 0 143 L S (hput h a 59 (vI x)) Q) := wp_put0 rfl rfl
theorem s238_143 : WP 238 0 143 [vA r, a1] S h Q ↔ WP 238 0 144 [vA r, a1] (vA r :: S) h Q := wp_aload rfl rfl
theorem s238_144 : WP 238 0 144 L S h Q ↔ WP 238 0 145 L (vI 0 :: S) h Q := wp_pl rfl rfl rfl
theorem s238_145 : WP 238 0 145 L (vI x :: vA (some a) :: S) h Q ↔ ((zNC ≤ a ∧ zhas 60 (hk h a) = true) ∧ WP 238 0 148 L S (hput h a 60 (vI x)) Q) := wp_put0 rfl rfl
theorem s238_148 : WP 238 0 148 [vA r, a1] S h Q ↔ WP 238 0 149 [vA r, a1] (vA r :: S) h Q := wp_aload rfl rfl
theorem s238_149 : WP 238 0 149 L (vA (some a) :: S) h Q ↔ (zhas 54 (hk h a) = true ∧ WP 238 0 152 L (hm h a 54 :: S) h Q) := wp_if rfl rfl rfl
theorem s238_152 : WP 238 0 152 L S h Q ↔ WP 238 0 153 L (vI 0 :: S) h Q := wp_pl rfl rfl rfl
theorem s238_153 : WP 238 0 153 L (vI x :: vA (some a) :: S) h Q ↔ (((hk h a).1 = 1 ∧ 0 ≤ x ∧ x < ((hk h a).2 : Int)) ∧ WP 238 0 154 L (hm h a x.toNat :: S) h Q) := wp_if rfl rfl rfl
theorem s238_154 : WP 238 0 154 L [vI x] h Q ↔ Q (.inl (some (vI x))) h := wp_iret0 rfl rfl
/-! RepeatFreeModel.run(II)I -/
theorem s239_0 : WP 239 0 0 [vA r, a1, a2, a3, a4, a5, a6] S h Q ↔ WP 239 0 1 [vA r, a1, a2, a3, a4, a5, a6] (vA r :: S) h Q := wp_aload rfl rfl
theorem s239_1 : WP 239 0 1 L S h Q ↔ WP 239 0 2 L (vI 0 :: S) h Q := wp_pl rfl rfl rfl
theorem s239_2 : WP 239 0 2 L (vI x :: vA (some a) :: S) h Q ↔ ((zNC ≤ a ∧ zhas 45 (hk h a) = true) ∧ WP 239 0 5 L S (hput h a 45 (vI x)) Q) := wp_put0 rfl rfl
theorem s239_5 : WP 239 0 5 [vA r, a1, a2, a3, a4, a5, a6] S h Q ↔ WP 239 0 6 [vA r, a1, a2, a3, a4, a5, a6] (vA r :: S) h Q := wp_aload rfl rfl
theorem s239_6 : WP 239 0 6 [a0, a1, vI x, a3, a4, a5, a6] S h Q ↔ WP 239 0 7 [a0, a1, vI x, a3, a4, a5, a6] (vI x :: S) h Q := wp_iload rfl rfl
theorem s239_7 : WP 239 0 7 L S h Q ↔ WP 239 0 8 L (vI 0 :: S) h Q := wp_pl rfl rfl rfl
theorem s239_8 : WP 239 0 8 L S h Q ↔ WP 239 0 9 L (vI 2 :: S) h Q := wp_pl rfl rfl rfl
theorem s239_9 : WP 239 0 9 L (vI x2 :: vI x1 :: vI x0 :: S) h Q ↔ (zw S ≤ 8 ∧ WP 183 0 0 [vI x0, vI x1, vI x2] [] h (zret 239 0 9 12 L S Q)) := wp_S rfl rfl (zcan_of rfl rfl) rfl rfl rfl
theorem s239_12 : WP 239 0 12 L (vI x :: S) h Q ↔ zif (x = 0) (WP 239 0 15 L S h Q) (WP 239 0 19 L S h Q) := wp_bN zc_eq rfl rfl rfl
theorem s239_15 : WP 239 0 15 L S h Q ↔ WP 239 0 16 L (vI 1 :: S) h Q := wp_pl rfl rfl rfl
theorem s239_16 : WP 239 0 16 L S h Q ↔ WP 239 0 20 L S h Q := wp_pl rfl rfl rfl
theorem s239_19 : WP 239 0 19 L S h Q ↔ WP 239 0 20 L (vI 0 :: S) h Q := wp_pl rfl rfl rfl
theorem s239_20 : WP 239 0 20 L S h Q ↔ WP 239 0 21 L (vI 1 :: S) h Q := wp_pl rfl rfl rfl
theorem s239_21 : WP 239 0 21 L (vI x1 :: vI x0 :: vA (some a) :: S) h Q ↔ ((hk h a).1 = 110 ∧ (zw S ≤ 8 ∧ WP 248 0 0 [vA (some a), vI x0, vI x1] [] h (zret 239 0 21 24 L S Q))) := wp_V1 (c := 110) rfl rfl (fun _ => rfl) rfl rfl (zcan_of rfl rfl) rfl rfl rfl
theorem s239_24 : WP 239 0 24 L (vI x :: S) h Q ↔ zif (x = 0) (WP 239 0 29 L S h Q) (WP 239 0 27 L S h Q) := wp_bE zc_eq rfl rfl rfl
theorem s239_27 : WP 239 0 27 L S h Q ↔ WP 239 0 28 L (vI 0 :: S) h Q := wp_pl rfl rfl rfl
theorem s239_28 : WP 239 0 28 L [vI x] h Q ↔ Q (.inl (some (vI x))) h := wp_iret0 rfl rfl
theorem s239_29 : WP 239 0 29 L S h Q ↔ WP 239 0 30 L (vI 0 :: S) h Q := wp_pl rfl rfl rfl
theorem s239_30 : WP 239 0 30 [a0, a1, a2, a3, a4, a5, a6] (vI x :: S) h Q ↔ WP 239 0 31 [a0, a1, a2, vI x, a4, a5, a6] S h Q := wp_istore rfl rfl rfl
theorem s239_31 : WP 239 0 31 L S h Q ↔ WP 239 0 32 L (vI 0 :: S) h Q := wp_pl rfl rfl rfl
theorem s239_32 : WP 239 0 32 [a0, a1, a2, a3, a4, a5, a6] (vI x :: S) h Q ↔ WP 239 0 34 [a0, a1, a2, a3, vI x, a5, a6] S h Q := wp_istore rfl rfl rfl
theorem s239_34 : WP 239 0 34 [a0, a1, a2, a3, vI x, a5, a6] S h Q ↔ WP 239 0 36 [a0, a1, a2, a3, vI x, a5, a6] (vI x :: S) h Q := wp_iload rfl rfl
theorem s239_36 : WP 239 0 36 [vA r, a1, a2, a3, a4, a5, a6] S h Q ↔ WP 239 0 37 [vA r, a1, a2, a3, a4, a5, a6] (vA r :: S) h Q := wp_aload rfl rfl
theorem s239_37 : WP 239 0 37 L (vA (some a) :: S) h Q ↔ (zhas 59 (hk h a) = true ∧ WP 239 0 40 L (hm h a 59 :: S) h Q) := wp_if rfl rfl rfl
theorem s239_40 : WP 239 0 40 L (vI y :: vI x :: S) h Q ↔ zif (x < y) (WP 239 0 43 L S h Q) (WP 239 0 120 L S h Q) := wp_bN zc_lt rfl rfl rfl
theorem s239_43 : WP 239 0 43 L S h Q ↔ WP 239 0 44 L (vI 1 :: S) h Q := wp_pl rfl rfl rfl
theorem s239_44 : WP 239 0 44 [a0, a1, a2, a3, a4, a5, a6] (vI x :: S) h Q ↔ WP 239 0 46 [a0, a1, a2, a3, a4, vI x, a6] S h Q := wp_istore rfl rfl rfl
theorem s239_46 : WP 239 0 46 L S h Q ↔ WP 239 0 47 L (vI 2 :: S) h Q := wp_pl rfl rfl rfl
theorem s239_47 : WP 239 0 47 [a0, a1, a2, a3, a4, vI x, a6] S h Q ↔ WP 239 0 49 [a0, a1, a2, a3, a4, vI x, a6] (vI x :: S) h Q := wp_iload rfl rfl
theorem s239_49 : WP 239 0 49 L (vI y :: vI x :: S) h Q ↔ WP 239 0 50 L (vI (wr (x * y)) :: S) h Q := wp_pl rfl rfl rfl
theorem s239_50 : WP 239 0 50 [vA r, a1, a2, a3, a4, a5, a6] S h Q ↔ WP 239 0 51 [vA r, a1, a2, a3, a4, a5, a6] (vA r :: S) h Q := wp_aload rfl rfl
theorem s239_51 : WP 239 0 51 L (vA (some a) :: S) h Q ↔ (zhas 59 (hk h a) = true ∧ WP 239 0 54 L (hm h a 59 :: S) h Q) := wp_if rfl rfl rfl
theorem s239_54 : WP 239 0 54 [a0, a1, a2, a3, vI x, a5, a6] S h Q ↔ WP 239 0 56 [a0, a1, a2, a3, vI x, a5, a6] (vI x :: S) h Q := wp_iload rfl rfl
theorem s239_56 : WP 239 0 56 L (vI y :: vI x :: S) h Q ↔ WP 239 0 57 L (vI (wr (x - y)) :: S) h Q := wp_pl rfl rfl rfl
theorem s239_57 : WP 239 0 57 L (vI y :: vI x :: S) h Q ↔ zif (y < x) (WP 239 0 114 L S h Q) (WP 239 0 60 L S h Q) := wp_bE zc_gt rfl rfl rfl
theorem s239_60 : WP 239 0 60 [vA r, a1, a2, a3, a4, a5, a6] S h Q ↔ WP 239 0 61 [vA r, a1, a2, a3, a4, a5, a6] (vA r :: S) h Q := wp_aload rfl rfl
theorem s239_61 : WP 239 0 61 [a0, a1, a2, a3, vI x, a5, a6] S h Q ↔ WP 239 0 63 [a0, a1, a2, a3, vI x, a5, a6] (vI x :: S) h Q := wp_iload rfl rfl
theorem s239_63 : WP 239 0 63 [a0, a1, a2, a3, a4, vI x, a6] S h Q ↔ WP 239 0 65 [a0, a1, a2, a3, a4, vI x, a6] (vI x :: S) h Q := wp_iload rfl rfl
theorem s239_65 : WP 239 0 65 L (vI x1 :: vI x0 :: vA (some a) :: S) h Q ↔ ((hk h a).1 = 110 ∧ (zw S ≤ 8 ∧ WP 240 0 0 [vA (some a), vI x0, vI x1, vJ] [] h (zret 239 0 65 68 L S Q))) := wp_V1 (c := 110) rfl rfl (fun _ => rfl) rfl rfl (zcan_of rfl rfl) rfl rfl rfl
theorem s239_68 : WP 239 0 68 [a0, a1, a2, a3, a4, a5, a6] (vI x :: S) h Q ↔ WP 239 0 70 [a0, a1, a2, a3, a4, a5, vI x] S h Q := wp_istore rfl rfl rfl
theorem s239_70 : WP 239 0 70 [a0, a1, a2, a3, a4, a5, vI x] S h Q ↔ WP 239 0 72 [a0, a1, a2, a3, a4, a5, vI x] (vI x :: S) h Q := wp_iload rfl rfl
theorem s239_72 : WP 239 0 72 L (vI x :: S) h Q ↔ zif (x = 0) (WP 239 0 75 L S h Q) (WP 239 0 78 L S h Q) := wp_bN zc_eq rfl rfl rfl
theorem s239_75 : WP 239 0 75 L S h Q ↔ WP 239 0 108 L S h Q := wp_pl rfl rfl rfl
theorem s239_78 : WP 239 0 78 [a0, a1, a2, vI x, a4, a5, a6] S h Q ↔ WP 239 0 79 [a0, a1, a2, vI x, a4, a5, a6] (vI x :: S) h Q := wp_iload rfl rfl
theorem s239_79 : WP 239 0 79 [a0, vI x, a2, a3, a4, a5, a6] S h Q ↔ WP 239 0 80 [a0, vI x, a2, a3, a4, a5, a6] (vI x :: S) h Q := wp_iload rfl rfl
theorem s239_80 : WP 239 0 80 L (vI y :: vI x :: S) h Q ↔ zif (x = y) (WP 239 0 83 L S h Q) (WP 239 0 105 L S h Q) := wp_bN zc_eq rfl rfl rfl
theorem s239_83 : WP 239 0 83 [a0, a1, vI x, a3, a4, a5, a6] S h Q ↔ WP 239 0 84 [a0, a1, vI x, a3, a4, a5, a6] (vI x :: S) h Q := wp_iload rfl rfl
theorem s239_84 : WP 239 0 84 L (vI x :: S) h Q ↔ zif (x = 0) (WP 239 0 87 L S h Q) (WP 239 0 92 L S h Q) := wp_bN zc_eq rfl rfl rfl
theorem s239_87 : WP 239 0 87 [a0, a1, a2, a3, vI x, a5, a6] S h Q ↔ WP 239 0 89 [a0, a1, a2, a3, vI x, a5, a6] (vI x :: S) h Q := wp_iload rfl rfl
theorem s239_89 : WP 239 0 89 L S h Q ↔ WP 239 0 104 L S h Q := wp_pl rfl rfl rfl
theorem s239_92 : WP 239 0 92 [a0, a1, vI x, a3, a4, a5, a6] S h Q ↔ WP 239 0 93 [a0, a1, vI x, a3, a4, a5, a6] (vI x :: S) h Q := wp_iload rfl rfl
theorem s239_93 : WP 239 0 93 L S h Q ↔ WP 239 0 94 L (vI 1 :: S) h Q := wp_pl rfl rfl rfl
theorem s239_94 : WP 239 0 94 L (vI y :: vI x :: S) h Q ↔ zif (x = y) (WP 239 0 97 L S h Q) (WP 239 0 102 L S h Q) := wp_bN zc_eq rfl rfl rfl
theorem s239_97 : WP 239 0 97 [a0, a1, a2, a3, a4, a5, vI x] S h Q ↔ WP 239 0 99 [a0, a1, a2, a3, a4, a5, vI x] (vI x :: S) h Q := wp_iload rfl rfl
theorem s239_99 : WP 239 0 99 L S h Q ↔ WP 239 0 104 L S h Q := wp_pl rfl rfl rfl
theorem s239_102 : WP 239 0 102 [a0, a1, a2, a3, a4, vI x, a6] S h Q ↔ WP 239 0 104 [a0, a1, a2, a3, a4, vI x, a6] (vI x :: S) h Q := wp_iload rfl rfl
theorem s239_104 : WP 239 0 104 L [vI x] h Q ↔ Q (.inl (some (vI x))) h := wp_iret0 rfl rfl
theorem s239_105 : WP 239 0 105 [a0, a1, a2, vI x, a4, a5, a6] S h Q ↔ WP 239 0 108 [a0, a1, a2, vI (wr (x + 1)), a4, a5, a6] S h Q := wp_iinc rfl rfl rfl
theorem s239_108 : WP 239 0 108 [a0, a1, a2, a3, a4, vI x, a6] S h Q ↔ WP 239 0 111 [a0, a1, a2, a3, a4, vI (wr (x + 1)), a6] S h Q := wp_iinc rfl rfl rfl
theorem s239_111 : WP 239 0 111 L S h Q ↔ WP 239 0 46 L S h Q := wp_pl rfl rfl rfl
theorem s239_114 : WP 239 0 114 [a0, a1, a2, a3, vI x, a5, a6] S h Q ↔ WP 239 0 117 [a0, a1, a2, a3, vI (wr (x + 1)), a5, a6] S h Q := wp_iinc rfl rfl rfl
theorem s239_117 : WP 239 0 117 L S h Q ↔ WP 239 0 34 L S h Q := wp_pl rfl rfl rfl
theorem s239_120 : WP 239 0 120 [a0, vI x, a2, a3, a4, a5, a6] S h Q ↔ WP 239 0 121 [a0, vI x, a2, a3, a4, a5, a6] (vI x :: S) h Q := wp_iload rfl rfl
theorem s239_121 : WP 239 0 121 L S h Q ↔ WP 239 0 122 L (vI (-1) :: S) h Q := wp_pl rfl rfl rfl
theorem s239_122 : WP 239 0 122 L (vI y :: vI x :: S) h Q ↔ zif (x = y) (WP 239 0 125 L S h Q) (WP 239 0 129 L S h Q) := wp_bN zc_eq rfl rfl rfl
theorem s239_125 : WP 239 0 125 [a0, a1, a2, vI x, a4, a5, a6] S h Q ↔ WP 239 0 126 [a0, a1, a2, vI x, a4, a5, a6] (vI x :: S) h Q := wp_iload rfl rfl
theorem s239_126 : WP 239 0 126 L S h Q ↔ WP 239 0 130 L S h Q := wp_pl rfl rfl rfl
theorem s239_129 : WP 239 0 129 L S h Q ↔ WP 239 0 130 L (vI (-1) :: S) h Q := wp_pl rfl rfl rfl
theorem s239_130 : WP 239 0 130 L [vI x] h Q ↔ Q (.inl (some (vI x))) h := wp_iret0 rfl rfl
/-! RepeatFreeModel.runAt(II)I -/
theorem s240_0 : WP 240 0 0 [a0, vI x, a2, a3] S h Q ↔ WP 240 0 1 [a0, vI x, a2, a3] (vI x :: S) h Q := wp_iload rfl rfl
theorem s240_1 : WP 240 0 1 L (vI x :: S) h Q ↔ zif (0 < x) (WP 240 0 4 L S h Q) (WP 240 0 39 L S h Q) := wp_bN zc_gt rfl rfl rfl
theorem s240_4 : WP 240 0 4 [a0, vI x, a2, a3] S h Q ↔ WP 240 0 5 [a0, vI x, a2, a3] (vI x :: S) h Q := wp_iload rfl rfl
theorem s240_5 : WP 240 0 5 [a0, a1, vI x, a3] S h Q ↔ WP 240 0 6 [a0, a1, vI x, a3] (vI x :: S) h Q := wp_iload rfl rfl
theorem s240_6 : WP 240 0 6 L (vI y :: vI x :: S) h Q ↔ WP 240 0 7 L (vI (wr (x + y)) :: S) h Q := wp_pl rfl rfl rfl
theorem s240_7 : WP 240 0 7 L S h Q ↔ WP 240 0 8 L (vI 1 :: S) h Q := wp_pl rfl rfl rfl
theorem s240_8 : WP 240 0 8 L (vI y :: vI x :: S) h Q ↔ WP 240 0 9 L (vI (wr (x - y)) :: S) h Q := wp_pl rfl rfl rfl
theorem s240_9 : WP 240 0 9 [vA r, a1, a2, a3] S h Q ↔ WP 240 0 10 [vA r, a1, a2, a3] (vA r :: S) h Q := wp_aload rfl rfl
theorem s240_10 : WP 240 0 10 L (vA (some a) :: S) h Q ↔ (zhas 59 (hk h a) = true ∧ WP 240 0 13 L (hm h a 59 :: S) h Q) := wp_if rfl rfl rfl
theorem s240_13 : WP 240 0 13 L (vI y :: vI x :: S) h Q ↔ zif (x < y) (WP 240 0 16 L S h Q) (WP 240 0 39 L S h Q) := wp_bN zc_lt rfl rfl rfl
theorem s240_16 : WP 240 0 16 [vA r, a1, a2, a3] S h Q ↔ WP 240 0 17 [vA r, a1, a2, a3] (vA r :: S) h Q := wp_aload rfl rfl
theorem s240_17 : WP 240 0 17 L (vA (some a) :: S) h Q ↔ (zhas 57 (hk h a) = true ∧ WP 240 0 20 L (hm h a 57 :: S) h Q) := wp_if rfl rfl rfl
theorem s240_20 : WP 240 0 20 [a0, vI x, a2, a3] S h Q ↔ WP 240 0 21 [a0, vI x, a2, a3] (vI x :: S) h Q := wp_iload rfl rfl
theorem s240_21 : WP 240 0 21 L S h Q ↔ WP 240 0 22 L (vI 1 :: S) h Q := wp_pl rfl rfl rfl
theorem s240_22 : WP 240 0 22 L (vI y :: vI x :: S) h Q ↔ WP 240 0 23 L (vI (wr (x - y)) :: S) h Q := wp_pl rfl rfl rfl
theorem s240_23 : WP 240 0 23 L (vI x :: vA (some a) :: S) h Q ↔ (((hk h a).1 = 1 ∧ 0 ≤ x ∧ x < ((hk h a).2 : Int)) ∧ WP 240 0 24 L (hm h a x.toNat :: S) h Q) := wp_if rfl rfl rfl
theorem s240_24 : WP 240 0 24 [vA r, a1, a2, a3] S h Q ↔ WP 240 0 25 [vA r, a1, a2, a3] (vA r :: S) h Q := wp_aload rfl rfl
theorem s240_25 : WP 240 0 25 L (vA (some a) :: S) h Q ↔ (zhas 57 (hk h a) = true ∧ WP 240 0 28 L (hm h a 57 :: S) h Q) := wp_if rfl rfl rfl
theorem s240_28 : WP 240 0 28 [a0, vI x, a2, a3] S h Q ↔ WP 240 0 29 [a0, vI x, a2, a3] (vI x :: S) h Q := wp_iload rfl rfl
theorem s240_29 : WP 240 0 29 [a0, a1, vI x, a3] S h Q ↔ WP 240 0 30 [a0, a1, vI x, a3] (vI x :: S) h Q := wp_iload rfl rfl
theorem s240_30 : WP 240 0 30 L (vI y :: vI x :: S) h Q ↔ WP 240 0 31 L (vI (wr (x + y)) :: S) h Q := wp_pl rfl rfl rfl
theorem s240_31 : WP 240 0 31 L S h Q ↔ WP 240 0 32 L (vI 1 :: S) h Q := wp_pl rfl rfl rfl
theorem s240_32 : WP 240 0 32 L (vI y :: vI x :: S) h Q ↔ WP 240 0 33 L (vI (wr (x - y)) :: S) h Q := wp_pl rfl rfl rfl
theorem s240_33 : WP 240 0 33 L (vI x :: vA (some a) :: S) h Q ↔ (((hk h a).1 = 1 ∧ 0 ≤ x ∧ x < ((hk h a).2 : Int)) ∧ WP 240 0 34 L (hm h a x.toNat :: S) h Q) := wp_if rfl rfl rfl
theorem s240_34 : WP 240 0 34 L (vI y :: vI x :: S) h Q ↔ zif (x = y) (WP 240 0 37 L S h Q) (WP 240 0 39 L S h Q) := wp_bN zc_eq rfl rfl rfl
theorem s240_37 : WP 240 0 37 L S h Q ↔ WP 240 0 38 L (vI 0 :: S) h Q := wp_pl rfl rfl rfl
theorem s240_38 : WP 240 0 38 L [vI x] h Q ↔ Q (.inl (some (vI x))) h := wp_iret0 rfl rfl
theorem s240_39 : WP 240 0 39 [a0, a1, vI x, a3] S h Q ↔ WP 240 0 40 [a0, a1, vI x, a3] (vI x :: S) h Q := wp_iload rfl rfl
theorem s240_40 : WP 240 0 40 [a0, a1, a2, a3] (vI x :: S) h Q ↔ WP 240 0 41 [a0, a1, a2, vI x] S h Q := wp_istore rfl rfl rfl
theorem s240_41 : WP 240 0 41 [a0, vI x, a2, a3] S h Q ↔ WP 240 0 42 [a0, vI x, a2, a3] (vI x :: S) h Q := wp_iload rfl rfl
theorem s240_42 : WP 240 0 42 [a0, a1, a2, vI x] S h Q ↔ WP 240 0 43 [a0, a1, a2, vI x] (vI x :: S) h Q := wp_iload rfl rfl
theorem s240_43 : WP 240 0 43 L (vI y :: vI x :: S) h Q ↔ WP 240 0 44 L (vI (wr (x + y)) :: S) h Q := wp_pl rfl rfl rfl
theorem s240_44 : WP 240 0 44 [vA r, a1, a2, a3] S h Q ↔ WP 240 0 45 [vA r, a1, a2, a3] (vA r :: S) h Q := wp_aload rfl rfl
theorem s240_45 : WP 240 0 45 L (vA (some a) :: S) h Q ↔ (zhas 59 (hk h a) = true ∧ WP 240 0 48 L (hm h a 59 :: S) h Q) := wp_if rfl rfl rfl
theorem s240_48 : WP 240 0 48 L (vI y :: vI x :: S) h Q ↔ zif (x < y) (WP 240 0 51 L S h Q) (WP 240 0 78 L S h Q) := wp_bN zc_lt rfl rfl rfl
theorem s240_51 : WP 240 0 51 [vA r, a1, a2, a3] S h Q ↔ WP 240 0 52 [vA r, a1, a2, a3] (vA r :: S) h Q := wp_aload rfl rfl
theorem s240_52 : WP 240 0 52 L (vA (some a) :: S) h Q ↔ (zhas 57 (hk h a) = true ∧ WP 240 0 55 L (hm h a 57 :: S) h Q) := wp_if rfl rfl rfl
theorem s240_55 : WP 240 0 55 [a0, vI x, a2, a3] S h Q ↔ WP 240 0 56 [a0, vI x, a2, a3] (vI x :: S) h Q := wp_iload rfl rfl
theorem s240_56 : WP 240 0 56 [a0, a1, a2, vI x] S h Q ↔ WP 240 0 57 [a0, a1, a2, vI x] (vI x :: S) h Q := wp_iload rfl rfl
theorem s240_57 : WP 240 0 57 L (vI y :: vI x :: S) h Q ↔ WP 240 0 58 L (vI (wr (x + y)) :: S) h Q := wp_pl rfl rfl rfl
theorem s240_58 : WP 240 0 58 L (vI x :: vA (some a) :: S) h Q ↔ (((hk h a).1 = 1 ∧ 0 ≤ x ∧ x < ((hk h a).2 : Int)) ∧ WP 240 0 59 L (hm h a x.toNat :: S) h Q) := wp_if rfl rfl rfl
theorem s240_59 : WP 240 0 59 [vA r, a1, a2, a3] S h Q ↔ WP 240 0 60 [vA r, a1, a2, a3] (vA r :: S) h Q := wp_aload rfl rfl
theorem s240_60 : WP 240 0 60 L (vA (some a) :: S) h Q ↔ (zhas 57 (hk h a) = true ∧ WP 240 0 63 L (hm h a 57 :: S) h Q) := wp_if rfl rfl rfl
theorem s240_63 : WP 240 0 63 [a0, vI x, a2, a3] S h Q ↔ WP 240 0 64 [a0, vI x, a2, a3] (vI x :: S) h Q := wp_iload rfl rfl
theorem s240_64 : WP 240 0 64 [a0, a1, a2, vI x] S h Q ↔ WP 240 0 65 [a0, a1, a2, vI x] (vI x :: S) h Q := wp_iload rfl rfl
theorem s240_65 : WP 240 0 65 L (vI y :: vI x :: S) h Q ↔ WP 240 0 66 L (vI (wr (x + y)) :: S) h Q := wp_pl rfl rfl rfl
theorem s240_66 : WP 240 0 66 [a0, a1, vI x, a3] S h Q ↔ WP 240 0 67 [a0, a1, vI x, a3] (vI x :: S) h Q := wp_iload rfl rfl
theorem s240_67 : WP 240 0 67 L (vI y :: vI x :: S) h Q ↔ WP 240 0 68 L (vI (wr (x - y)) :: S) h Q := wp_pl rfl rfl rfl
theorem s240_68 : WP 240 0 68 L (vI x :: vA (some a) :: S) h Q ↔ (((hk h a).1 = 1 ∧ 0 ≤ x ∧ x < ((hk h a).2 : Int)) ∧ WP 240 0 69 L (hm h a x.toNat :: S) h Q) := wp_if rfl rfl rfl
theorem s240_69 : WP 240 0 69 L (vI y :: vI x :: S) h Q ↔ zif (x = y) (WP 240 0 72 L S h Q) (WP 240 0 78 L S h Q) := wp_bN zc_eq rfl rfl rfl
theorem s240_72 : WP 240 0 72 [a0, a1, a2, vI x] S h Q ↔ WP 240 0 75 [a0, a1, a2, vI (wr (x + 1))] S h Q := wp_iinc rfl rfl rfl
theorem s240_75 : WP 240 0 75 L S h Q ↔ WP 240 0 41 L S h Q := wp_pl rfl rfl rfl
theorem s240_78 : WP 240 0 78 [a0, a1, a2, vI x] S h Q ↔ WP 240 0 79 [a0, a1, a2, vI x] (vI x :: S) h Q := wp_iload rfl rfl
theorem s240_79 : WP 240 0 79 L S h Q ↔ WP 240 0 80 L (vI 2 :: S) h Q := wp_pl rfl rfl rfl
theorem s240_80 : WP 240 0 80 [a0, a1, vI x, a3] S h Q ↔ WP 240 0 81 [a0, a1, vI x, a3] (vI x :: S) h Q := wp_iload rfl rfl
theorem s240_81 : WP 240 0 81 L (vI y :: vI x :: S) h Q ↔ WP 240 0 82 L (vI (wr (x * y)) :: S) h Q := wp_pl rfl rfl rfl
theorem s240_82 : WP 240 0 82 L (vI y :: vI x :: S) h Q ↔ zif (x < y) (WP 240 0 99 L S h Q) (WP 240 0 85 L S h Q) := wp_bE zc_lt rfl rfl rfl
theorem s240_85 : WP 240 0 85 [vA r, a1, a2, a3] S h Q ↔ WP 240 0 86 [vA r, a1, a2, a3] (vA r :: S) h Q := wp_aload rfl rfl
theorem s240_86 : WP 240 0 86 [a0, vI x, a2, a3] S h Q ↔ WP 240 0 87 [a0, vI x, a2, a3] (vI x :: S) h Q := wp_iload rfl rfl
theorem s240_87 : WP 240 0 87 [a0, a1, a2, vI x] S h Q ↔ WP 240 0 88 [a0, a1, a2, vI x] (vI x :: S) h Q := wp_iload rfl rfl
theorem s240_88 : WP 240 0 88 L (vI x1 :: vI x0 :: vA (some a) :: S) h Q ↔ ((hk h a).1 = 110 ∧ (zw S ≤ 8 ∧ WP 232 0 0 [vA (some a), vI x0, vI x1, vJ, vJ] [] h (zret 240 0 88 91 L S Q))) := wp_V1 (c := 110) rfl rfl (fun _ => rfl) rfl rfl (zcan_of rfl rfl) rfl rfl rfl
theorem s240_91 : WP 240 0 91 [a0, a1, vI x, a3] S h Q ↔ WP 240 0 92 [a0, a1, vI x, a3] (vI x :: S) h Q := wp_iload rfl rfl
theorem s240_92 : WP 240 0 92 L (vI y :: vI x :: S) h Q ↔ zif (x = y) (WP 240 0 95 L S h Q) (WP 240 0 99 L S h Q) := wp_bN zc_eq rfl rfl rfl
theorem s240_95 : WP 240 0 95 [a0, a1, a2, vI x] S h Q ↔ WP 240 0 96 [a0, a1, a2, vI x] (vI x :: S) h Q := wp_iload rfl rfl
theorem s240_96 : WP 240 0 96 L S h Q ↔ WP 240 0 100 L S h Q := wp_pl rfl rfl rfl
theorem s240_99 : WP 240 0 99 L S h Q ↔ WP 240 0 100 L (vI 0 :: S) h Q := wp_pl rfl rfl rfl
theorem s240_100 : WP 240 0 100 L [vI x] h Q ↔ Q (.inl (some (vI x))) h := wp_iret0 rfl rfl
/-! RepeatFreeModel.searches(III)Z -/
theorem s241_0 : WP 241 lv 0 [a0, vI x, a2, a3, a4] S h Q ↔ WP 241 lv 1 [a0, vI x, a2, a3, a4] (vI x :: S) h Q := wp_iload rfl rfl
theorem s241_1 : WP 241 lv 1 [a0, a1, vI x, a3, a4] S h Q ↔ WP 241 lv 2 [a0, a1, vI x, a3, a4] (vI x :: S) h Q := wp_iload rfl rfl
theorem s241_2 : WP 241 lv 2 L (vI y :: vI x :: S) h Q ↔ zif (x = y) (WP 241 lv 5 L S h Q) (WP 241 lv 12 L S h Q) := wp_bN zc_eq rfl rfl rfl
theorem s241_5 : WP 241 lv 5 [vA r, a1, a2, a3, a4] S h Q ↔ WP 241 lv 6 [vA r, a1, a2, a3, a4] (vA r :: S) h Q := wp_aload rfl rfl
theorem s241_6 : WP 241 lv 6 [a0, a1, vI x, a3, a4] S h Q ↔ WP 241 lv 7 [a0, a1, vI x, a3, a4] (vI x :: S) h Q := wp_iload rfl rfl
theorem s241_7 : WP 241 lv 7 [a0, a1, a2, vI x, a4] S h Q ↔ WP 241 lv 8 [a0, a1, a2, vI x, a4] (vI x :: S) h Q := wp_iload rfl rfl
theorem s241_8 : WP 241 lv 8 L (vI x1 :: vI x0 :: vA (some a) :: S) h Q ↔ ((hk h a).1 = 110 ∧ (zw S ≤ 8 ∧ WP 216 0 0 [vA (some a), vI x0, vI x1] [] h (zret 241 lv 8 11 L S Q))) := wp_V1 (c := 110) rfl rfl (fun _ => rfl) rfl rfl (zcan_of rfl rfl) rfl rfl rfl
theorem s241_11 : WP 241 lv 11 L [vI x] h Q ↔ ((x = 0 ∨ x = 1) ∧ Q (.inl (some (vI x))) h) := wp_iret rfl rfl
theorem s241_12 : WP 241 lv 12 L S h Q ↔ WP 241 lv 13 L (vI 0 :: S) h Q := wp_pl rfl rfl rfl
theorem s241_13 : WP 241 lv 13 [a0, a1, a2, a3, a4] (vI x :: S) h Q ↔ WP 241 lv 15 [a0, a1, a2, a3, vI x] S h Q := wp_istore rfl rfl rfl
theorem s241_15 : WP 241 lv 15 [a0, a1, a2, a3, vI x] S h Q ↔ WP 241 lv 17 [a0, a1, a2, a3, vI x] (vI x :: S) h Q := wp_iload rfl rfl
theorem s241_17 : WP 241 lv 17 [vA r, a1, a2, a3, a4] S h Q ↔ WP 241 lv 18 [vA r, a1, a2, a3, a4] (vA r :: S) h Q := wp_aload rfl rfl
theorem s241_18 : WP 241 lv 18 L (vA (some a) :: S) h Q ↔ (zhas 54 (hk h a) = true ∧ WP 241 lv 21 L (hm h a 54 :: S) h Q) := wp_if rfl rfl rfl
theorem s241_21 : WP 241 lv 21 L S h Q ↔ WP 241 lv 22 L (vI 0 :: S) h Q := wp_pl rfl rfl rfl
theorem s241_22 : WP 241 lv 22 L (vI x :: vA (some a) :: S) h Q ↔ (((hk h a).1 = 1 ∧ 0 ≤ x ∧ x < ((hk h a).2 : Int)) ∧ WP 241 lv 23 L (hm h a x.toNat :: S) h Q) := wp_if rfl rfl rfl
theorem s241_23 : WP 241 lv 23 L (vI y :: vI x :: S) h Q ↔ zif (x < y) (WP 241 lv 26 L S h Q) (WP 241 lv 95 L S h Q) := wp_bN zc_lt rfl rfl rfl
theorem s241_26 : WP 241 lv 26 [vA r, a1, a2, a3, a4] S h Q ↔ WP 241 lv 27 [vA r, a1, a2, a3, a4] (vA r :: S) h Q := wp_aload rfl rfl
theorem s241_27 : WP 241 lv 27 L (vA (some a) :: S) h Q ↔ (zhas 65 (hk h a) = true ∧ WP 241 lv 30 L (hm h a 65 :: S) h Q) := wp_if rfl rfl rfl
theorem s241_30 : WP 241 lv 30 L S h Q ↔ WP 241 lv 33 L (vI 5000 :: S) h Q := wp_pl rfl rfl rfl
theorem s241_33 : WP 241 lv 33 L (vI y :: vI x :: S) h Q ↔ zif (x = y) (WP 241 lv 36 L S h Q) (WP 241 lv 43 L S h Q) := wp_bN zc_eq rfl rfl rfl
theorem s241_36 : WP 241 lv 36 [vA r, a1, a2, a3, a4] S h Q ↔ WP 241 lv 37 [vA r, a1, a2, a3, a4] (vA r :: S) h Q := wp_aload rfl rfl
theorem s241_37 : WP 241 lv 37 L S h Q ↔ WP 241 lv 38 L (vI 1 :: S) h Q := wp_pl rfl rfl rfl
theorem s241_38 : WP 241 lv 38 L (vI x :: vA (some a) :: S) h Q ↔ ((zNC ≤ a ∧ zhas 67 (hk h a) = true ∧ (x = 0 ∨ x = 1)) ∧ WP 241 lv 41 L S (hput h a 67 (vI x)) Q) := wp_put1 rfl rfl
theorem s241_41 : WP 241 lv 41 L S h Q ↔ WP 241 lv 42 L (vI 0 :: S) h Q := wp_pl rfl rfl rfl
theorem s241_42 : WP 241 lv 42 L [vI x] h Q ↔ ((x = 0 ∨ x = 1) ∧ Q (.inl (some (vI x))) h) := wp_iret rfl rfl
theorem s241_43 : WP 241 lv 43 [vA r, a1, a2, a3, a4] S h Q ↔ WP 241 lv 44 [vA r, a1, a2, a3, a4] (vA r :: S) h Q := wp_aload rfl rfl
theorem s241_44 : WP 241 lv 44 L (vA r :: S) h Q ↔ WP 241 lv 45 L (vA r :: vA r :: S) h Q := wp_pl rfl rfl rfl
theorem s241_44i : WP 241 lv 44 L (vI x :: S) h Q ↔ WP 241 lv 45 L (vI x :: vI x :: S) h Q := wp_pl rfl rfl rfl
theorem s241_45 : WP 241 lv 45 L (vA (some a) :: S) h Q ↔ (zhas 65 (hk h a) = true ∧ WP 241 lv 48 L (hm h a 65 :: S) h Q) := wp_if rfl rfl rfl
theorem s241_48 : WP 241 lv 48 L S h Q ↔ WP 241 lv 49 L (vI 1 :: S) h Q := wp_pl rfl rfl rfl
theorem s241_49 : WP 241 lv 49 L (vI y :: vI x :: S) h Q ↔ WP 241 lv 50 L (vI (wr (x + y)) :: S) h Q := wp_pl rfl rfl rfl
theorem s241_50 : WP 241 lv 50 L (vI x :: vA (some a) :: S) h Q ↔ ((zNC ≤ a ∧ zhas 65 (hk h a) = true) ∧ WP 241 lv 53 L S (hput h a 65 (vI x)) Q) := wp_put0 rfl rfl
theorem s241_53 : WP 241 lv 53 [vA r, a1, a2, a3, a4] S h Q ↔ WP 241 lv 54 [vA r, a1, a2, a3, a4] (vA r :: S) h Q := wp_aload rfl rfl
theorem s241_54 : WP 241 lv 54 L (vA (some a) :: S) h Q ↔ (zhas 64 (hk h a) = true ∧ WP 241 lv 57 L (hm h a 64 :: S) h Q) := wp_if rfl rfl rfl
theorem s241_57 : WP 241 lv 57 [a0, vI x, a2, a3, a4] S h Q ↔ WP 241 lv 58 [a0, vI x, a2, a3, a4] (vI x :: S) h Q := wp_iload rfl rfl
theorem s241_58 : WP 241 lv 58 [a0, a1, a2, a3, vI x] S h Q ↔ WP 241 lv 60 [a0, a1, a2, a3, vI x] (vI x :: S) h Q := wp_iload rfl rfl
theorem s241_60 : WP 241 lv 60 L (vI y :: vI x :: vA (some a) :: S) h Q ↔ (((hk h a).1 = 1 ∧ (0 ≤ x ∧ x < ((hk h a).2 : Int)) ∧ zNC ≤ a) ∧ WP 241 lv 61 L S (hput h a x.toNat (vI y)) Q) := wp_if rfl rfl rfl
theorem s241_61 : WP 241 lv 61 [vA r, a1, a2, a3, a4] S h Q ↔ WP 241 lv 62 [vA r, a1, a2, a3, a4] (vA r :: S) h Q := wp_aload rfl rfl
theorem s241_62 : WP 241 lv 62 [vA r, a1, a2, a3, a4] S h Q ↔ WP 241 lv 63 [vA r, a1, a2, a3, a4] (vA r :: S) h Q := wp_aload rfl rfl
theorem s241_63 : WP 241 lv 63 L (vA (some a) :: S) h Q ↔ (zhas 64 (hk h a) = true ∧ WP 241 lv 66 L (hm h a 64 :: S) h Q) := wp_if rfl rfl rfl
theorem s241_66 : WP 241 lv 66 [a0, vI x, a2, a3, a4] S h Q ↔ WP 241 lv 67 [a0, vI x, a2, a3, a4] (vI x :: S) h Q := wp_iload rfl rfl
theorem s241_67 : WP 241 lv 67 L S h Q ↔ WP 241 lv 68 L (vI 1 :: S) h Q := wp_pl rfl rfl rfl
theorem s241_68 : WP 241 lv 68 L (vI y :: vI x :: S) h Q ↔ WP 241 lv 69 L (vI (wr (x + y)) :: S) h Q := wp_pl rfl rfl rfl
theorem s241_69 : WP 241 lv 69 L (vI x1 :: vA r0 :: vA (some a) :: S) h Q ↔ ((hk h a).1 = 110 ∧ (zw S ≤ 8 ∧ WP 173 0 0 [vA (some a), vA r0, vI x1, vJ] [] h (zret 241 lv 69 72 L S Q))) := wp_V1 (c := 110) rfl rfl (fun _ => rfl) rfl rfl (zcan_of rfl rfl) rfl rfl rfl
theorem s241_72 : WP 241 lv 72 L (vI x :: S) h Q ↔ zif (x = 0) (WP 241 lv 89 L S h Q) (WP 241 lv 75 L S h Q) := wp_bE zc_eq rfl rfl rfl
theorem s241_75 : WP 241 lv 75 [vA r, a1, a2, a3, a4] S h Q ↔ WP 241 lv 76 [vA r, a1, a2, a3, a4] (vA r :: S) h Q := wp_aload rfl rfl
theorem s241_76 : WP 241 lv 76 [a0, vI x, a2, a3, a4] S h Q ↔ WP 241 lv 77 [a0, vI x, a2, a3, a4] (vI x :: S) h Q := wp_iload rfl rfl
theorem s241_77 : WP 241 lv 77 L S h Q ↔ WP 241 lv 78 L (vI 1 :: S) h Q := wp_pl rfl rfl rfl
theorem s241_78 : WP 241 lv 78 L (vI y :: vI x :: S) h Q ↔ WP 241 lv 79 L (vI (wr (x + y)) :: S) h Q := wp_pl rfl rfl rfl
theorem s241_79 : WP 241 lv 79 [a0, a1, vI x, a3, a4] S h Q ↔ WP 241 lv 80 [a0, a1, vI x, a3, a4] (vI x :: S) h Q := wp_iload rfl rfl
theorem s241_80 : WP 241 lv 80 [a0, a1, a2, vI x, a4] S h Q ↔ WP 241 lv 81 [a0, a1, a2, vI x, a4] (vI x :: S) h Q := wp_iload rfl rfl
theorem s241_81 : WP 241 (lv + 1) 81 L (vI x2 :: vI x1 :: vI x0 :: vA (some a) :: S) h Q ↔ ((hk h a).1 = 110 ∧ (zw S ≤ 8 ∧ WP 241 lv 0 [vA (some a), vI x0, vI x1, vI x2, vJ] [] h (zret 241 (lv + 1) 81 84 L S Q))) := wp_V1 (c := 110) rfl rfl (fun _ => rfl) rfl rfl zcan_self rfl rfl rfl
theorem s241_84 : WP 241 lv 84 L (vI x :: S) h Q ↔ zif (x = 0) (WP 241 lv 87 L S h Q) (WP 241 lv 89 L S h Q) := wp_bN zc_eq rfl rfl rfl
theorem s241_87 : WP 241 lv 87 L S h Q ↔ WP 241 lv 88 L (vI 0 :: S) h Q := wp_pl rfl rfl rfl
theorem s241_88 : WP 241 lv 88 L [vI x] h Q ↔ ((x = 0 ∨ x = 1) ∧ Q (.inl (some (vI x))) h) := wp_iret rfl rfl
theorem s241_89 : WP 241 lv 89 [a0, a1, a2, a3, vI x] S h Q ↔ WP 241 lv 92 [a0, a1, a2, a3, vI (wr (x + 1))] S h Q := wp_iinc rfl rfl rfl
theorem s241_92 : WP 241 lv 92 L S h Q ↔ WP 241 lv 15 L S h Q := wp_pl rfl rfl rfl
theorem s241_95 : WP 241 lv 95 L S h Q ↔ WP 241 lv 96 L (vI 1 :: S) h Q := wp_pl rfl rfl rfl
theorem s241_96 : WP 241 lv 96 L [vI x] h Q ↔ ((x = 0 ∨ x = 1) ∧ Q (.inl (some (vI x))) h) := wp_iret rfl rfl
/-! RepeatFreeModel.sources(I)J -/
theorem s242_0 : WP 242 0 0 [vA r, a1, a2, a3, a4, a5, a6] S h Q ↔ WP 242 0 1 [vA r, a1, a2, a3, a4, a5, a6] (vA r :: S) h Q := wp_aload rfl rfl
theorem s242_1 : WP 242 0 1 L S h Q ↔ WP 242 0 2 L (vI 0 :: S) h Q := wp_pl rfl rfl rfl
theorem s242_2 : WP 242 0 2 L (vI x :: vA (some a) :: S) h Q ↔ ((zNC ≤ a ∧ zhas 45 (hk h a) = true) ∧ WP 242 0 5 L S (hput h a 45 (vI x)) Q) := wp_put0 rfl rfl
theorem s242_5 : WP 242 0 5 [vA r, a1, a2, a3, a4, a5, a6] S h Q ↔ WP 242 0 6 [vA r, a1, a2, a3, a4, a5, a6] (vA r :: S) h Q := wp_aload rfl rfl
theorem s242_6 : WP 242 0 6 [a0, vI x, a2, a3, a4, a5, a6] S h Q ↔ WP 242 0 7 [a0, vI x, a2, a3, a4, a5, a6] (vI x :: S) h Q := wp_iload rfl rfl
theorem s242_7 : WP 242 0 7 L (vI x0 :: vA (some a) :: S) h Q ↔ ((hk h a).1 = 110 ∧ (zw S ≤ 8 ∧ WP 223 0 0 [vA (some a), vI x0] [] h (zret 242 0 7 10 L S Q))) := wp_V1 (c := 110) rfl rfl (fun _ => rfl) rfl rfl (zcan_of rfl rfl) rfl rfl rfl
theorem s242_10 : WP 242 0 10 L (vI x :: S) h Q ↔ zif (x = 0) (WP 242 0 15 L S h Q) (WP 242 0 13 L S h Q) := wp_bE zc_eq rfl rfl rfl
theorem s242_13 : WP 242 0 13 L S h Q ↔ WP 242 0 14 L (vL 0 :: S) h Q := wp_pl rfl rfl rfl
theorem s242_14 : WP 242 0 14 L [vL x] h Q ↔ Q (.inl (some (vL x))) h := wp_lret rfl
theorem s242_15 : WP 242 0 15 [vA r, a1, a2, a3, a4, a5, a6] S h Q ↔ WP 242 0 16 [vA r, a1, a2, a3, a4, a5, a6] (vA r :: S) h Q := wp_aload rfl rfl
theorem s242_16 : WP 242 0 16 L (vA (some a) :: S) h Q ↔ (zhas 73 (hk h a) = true ∧ WP 242 0 19 L (hm h a 73 :: S) h Q) := wp_if rfl rfl rfl
theorem s242_19 : WP 242 0 19 L S h Q ↔ WP 242 0 20 L (vI 0 :: S) h Q := wp_pl rfl rfl rfl
theorem s242_20 : WP 242 0 20 L S h Q ↔ WP 242 0 21 L (vL 1 :: S) h Q := wp_pl rfl rfl rfl
theorem s242_21 : WP 242 0 21 L (vL y :: vI x :: vA (some a) :: S) h Q ↔ (((hk h a).1 = 4 ∧ (0 ≤ x ∧ x < ((hk h a).2 : Int)) ∧ zNC ≤ a) ∧ WP 242 0 22 L S (hput h a x.toNat (vL y)) Q) := wp_if rfl rfl rfl
theorem s242_22 : WP 242 0 22 L S h Q ↔ WP 242 0 23 L (vI 1 :: S) h Q := wp_pl rfl rfl rfl
theorem s242_23 : WP 242 0 23 [a0, a1, a2, a3, a4, a5, a6] (vI x :: S) h Q ↔ WP 242 0 24 [a0, a1, vI x, a3, a4, a5, a6] S h Q := wp_istore rfl rfl rfl
theorem s242_24 : WP 242 0 24 [a0, a1, vI x, a3, a4, a5, a6] S h Q ↔ WP 242 0 25 [a0, a1, vI x, a3, a4, a5, a6] (vI x :: S) h Q := wp_iload rfl rfl
theorem s242_25 : WP 242 0 25 [vA r, a1, a2, a3, a4, a5, a6] S h Q ↔ WP 242 0 26 [vA r, a1, a2, a3, a4, a5, a6] (vA r :: S) h Q := wp_aload rfl rfl
theorem s242_26 : WP 242 0 26 L (vA (some a) :: S) h Q ↔ (zhas 59 (hk h a) = true ∧ WP 242 0 29 L (hm h a 59 :: S) h Q) := wp_if rfl rfl rfl
theorem s242_29 : WP 242 0 29 L (vI y :: vI x :: S) h Q ↔ zif (y < x) (WP 242 0 158 L S h Q) (WP 242 0 32 L S h Q) := wp_bE zc_gt rfl rfl rfl
theorem s242_32 : WP 242 0 32 [vA r, a1, a2, a3, a4, a5, a6] S h Q ↔ WP 242 0 33 [vA r, a1, a2, a3, a4, a5, a6] (vA r :: S) h Q := wp_aload rfl rfl
theorem s242_33 : WP 242 0 33 L (vA (some a) :: S) h Q ↔ (zhas 73 (hk h a) = true ∧ WP 242 0 36 L (hm h a 73 :: S) h Q) := wp_if rfl rfl rfl
theorem s242_36 : WP 242 0 36 [a0, a1, vI x, a3, a4, a5, a6] S h Q ↔ WP 242 0 37 [a0, a1, vI x, a3, a4, a5, a6] (vI x :: S) h Q := wp_iload rfl rfl
theorem s242_37 : WP 242 0 37 L S h Q ↔ WP 242 0 38 L (vL 0 :: S) h Q := wp_pl rfl rfl rfl
theorem s242_38 : WP 242 0 38 L (vL y :: vI x :: vA (some a) :: S) h Q ↔ (((hk h a).1 = 4 ∧ (0 ≤ x ∧ x < ((hk h a).2 : Int)) ∧ zNC ≤ a) ∧ WP 242 0 39 L S (hput h a x.toNat (vL y)) Q) := wp_if rfl rfl rfl
theorem s242_39 : WP 242 0 39 L S h Q ↔ WP 242 0 40 L (vI 0 :: S) h Q := wp_pl rfl rfl rfl
theorem s242_40 : WP 242 0 40 [a0, a1, a2, a3, a4, a5, a6] (vI x :: S) h Q ↔ WP 242 0 41 [a0, a1, a2, vI x, a4, a5, a6] S h Q := wp_istore rfl rfl rfl
theorem s242_41 : WP 242 0 41 [a0, a1, a2, vI x, a4, a5, a6] S h Q ↔ WP 242 0 42 [a0, a1, a2, vI x, a4, a5, a6] (vI x :: S) h Q := wp_iload rfl rfl
theorem s242_42 : WP 242 0 42 [vA r, a1, a2, a3, a4, a5, a6] S h Q ↔ WP 242 0 43 [vA r, a1, a2, a3, a4, a5, a6] (vA r :: S) h Q := wp_aload rfl rfl
theorem s242_43 : WP 242 0 43 L (vA (some a) :: S) h Q ↔ (zhas 54 (hk h a) = true ∧ WP 242 0 46 L (hm h a 54 :: S) h Q) := wp_if rfl rfl rfl
theorem s242_46 : WP 242 0 46 L S h Q ↔ WP 242 0 47 L (vI 0 :: S) h Q := wp_pl rfl rfl rfl
theorem s242_47 : WP 242 0 47 L (vI x :: vA (some a) :: S) h Q ↔ (((hk h a).1 = 1 ∧ 0 ≤ x ∧ x < ((hk h a).2 : Int)) ∧ WP 242 0 48 L (hm h a x.toNat :: S) h Q) := wp_if rfl rfl rfl
theorem s242_48 : WP 242 0 48 L (vI y :: vI x :: S) h Q ↔ zif (x < y) (WP 242 0 51 L S h Q) (WP 242 0 152 L S h Q) := wp_bN zc_lt rfl rfl rfl
theorem s242_51 : WP 242 0 51 [vA r, a1, a2, a3, a4, a5, a6] S h Q ↔ WP 242 0 52 [vA r, a1, a2, a3, a4, a5, a6] (vA r :: S) h Q := wp_aload rfl rfl
theorem s242_52 : WP 242 0 52 [a0, vI x, a2, a3, a4, a5, a6] S h Q ↔ WP 242 0 53 [a0, vI x, a2, a3, a4, a5, a6] (vI x :: S) h Q := wp_iload rfl rfl
theorem s242_53 : WP 242 0 53 [a0, a1, a2, vI x, a4, a5, a6] S h Q ↔ WP 242 0 54 [a0, a1, a2, vI x, a4, a5, a6] (vI x :: S) h Q := wp_iload rfl rfl
theorem s242_54 : WP 242 0 54 L (vI x1 :: vI x0 :: vA (some a) :: S) h Q ↔ ((hk h a).1 = 110 ∧ (zw S ≤ 8 ∧ WP 210 0 0 [vA (some a), vI x0, vI x1] [] h (zret 242 0 54 57 L S Q))) := wp_V1 (c := 110) rfl rfl (fun _ => rfl) rfl rfl (zcan_of rfl rfl) rfl rfl rfl
theorem s242_57 : WP 242 0 57 [a0, a1, a2, a3, a4, a5, a6] (vI x :: S) h Q ↔ WP 242 0 59 [a0, a1, a2, a3, vI x, a5, a6] S h Q := wp_istore rfl rfl rfl
theorem s242_59 : WP 242 0 59 [a0, a1, a2, a3, vI x, a5, a6] S h Q ↔ WP 242 0 61 [a0, a1, a2, a3, vI x, a5, a6] (vI x :: S) h Q := wp_iload rfl rfl
theorem s242_61 : WP 242 0 61 [a0, a1, vI x, a3, a4, a5, a6] S h Q ↔ WP 242 0 62 [a0, a1, vI x, a3, a4, a5, a6] (vI x :: S) h Q := wp_iload rfl rfl
theorem s242_62 : WP 242 0 62 L (vI y :: vI x :: S) h Q ↔ zif (y < x) (WP 242 0 69 L S h Q) (WP 242 0 65 L S h Q) := wp_bE zc_gt rfl rfl rfl
theorem s242_65 : WP 242 0 65 L S h Q ↔ WP 242 0 66 L (vI 1 :: S) h Q := wp_pl rfl rfl rfl
theorem s242_66 : WP 242 0 66 L S h Q ↔ WP 242 0 70 L S h Q := wp_pl rfl rfl rfl
theorem s242_69 : WP 242 0 69 L S h Q ↔ WP 242 0 70 L (vI 0 :: S) h Q := wp_pl rfl rfl rfl
theorem s242_70 : WP 242 0 70 [a0, a1, a2, a3, a4, a5, a6] (vI x :: S) h Q ↔ WP 242 0 72 [a0, a1, a2, a3, a4, vI x, a6] S h Q := wp_istore rfl rfl rfl
theorem s242_72 : WP 242 0 72 L S h Q ↔ WP 242 0 73 L (vI 0 :: S) h Q := wp_pl rfl rfl rfl
theorem s242_73 : WP 242 0 73 [a0, a1, a2, a3, a4, a5, a6] (vI x :: S) h Q ↔ WP 242 0 75 [a0, a1, a2, a3, a4, a5, vI x] S h Q := wp_istore rfl rfl rfl
theorem s242_75 : WP 242 0 75 [a0, a1, a2, a3, a4, a5, vI x] S h Q ↔ WP 242 0 77 [a0, a1, a2, a3, a4, a5, vI x] (vI x :: S) h Q := wp_iload rfl rfl
theorem s242_77 : WP 242 0 77 [a0, a1, a2, a3, vI x, a5, a6] S h Q ↔ WP 242 0 79 [a0, a1, a2, a3, vI x, a5, a6] (vI x :: S) h Q := wp_iload rfl rfl
theorem s242_79 : WP 242 0 79 L (vI y :: vI x :: S) h Q ↔ zif (x < y) (WP 242 0 82 L S h Q) (WP 242 0 123 L S h Q) := wp_bN zc_lt rfl rfl rfl
theorem s242_82 : WP 242 0 82 [a0, a1, a2, a3, a4, vI x, a6] S h Q ↔ WP 242 0 84 [a0, a1, a2, a3, a4, vI x, a6] (vI x :: S) h Q := wp_iload rfl rfl
theorem s242_84 : WP 242 0 84 L (vI x :: S) h Q ↔ zif (x = 0) (WP 242 0 123 L S h Q) (WP 242 0 87 L S h Q) := wp_bE zc_eq rfl rfl rfl
theorem s242_87 : WP 242 0 87 [vA r, a1, a2, a3, a4, a5, a6] S h Q ↔ WP 242 0 88 [vA r, a1, a2, a3, a4, a5, a6] (vA r :: S) h Q := wp_aload rfl rfl
theorem s242_88 : WP 242 0 88 L (vA (some a) :: S) h Q ↔ (zhas 57 (hk h a) = true ∧ WP 242 0 91 L (hm h a 57 :: S) h Q) := wp_if rfl rfl rfl
theorem s242_91 : WP 242 0 91 [a0, a1, vI x, a3, a4, a5, a6] S h Q ↔ WP 242 0 92 [a0, a1, vI x, a3, a4, a5, a6] (vI x :: S) h Q := wp_iload rfl rfl
theorem s242_92 : WP 242 0 92 [a0, a1, a2, a3, vI x, a5, a6] S h Q ↔ WP 242 0 94 [a0, a1, a2, a3, vI x, a5, a6] (vI x :: S) h Q := wp_iload rfl rfl
theorem s242_94 : WP 242 0 94 L (vI y :: vI x :: S) h Q ↔ WP 242 0 95 L (vI (wr (x - y)) :: S) h Q := wp_pl rfl rfl rfl
theorem s242_95 : WP 242 0 95 [a0, a1, a2, a3, a4, a5, vI x] S h Q ↔ WP 242 0 97 [a0, a1, a2, a3, a4, a5, vI x] (vI x :: S) h Q := wp_iload rfl rfl
theorem s242_97 : WP 242 0 97 L (vI y :: vI x :: S) h Q ↔ WP 242 0 98 L (vI (wr (x + y)) :: S) h Q := wp_pl rfl rfl rfl
theorem s242_98 : WP 242 0 98 L (vI x :: vA (some a) :: S) h Q ↔ (((hk h a).1 = 1 ∧ 0 ≤ x ∧ x < ((hk h a).2 : Int)) ∧ WP 242 0 99 L (hm h a x.toNat :: S) h Q) := wp_if rfl rfl rfl
theorem s242_99 : WP 242 0 99 [vA r, a1, a2, a3, a4, a5, a6] S h Q ↔ WP 242 0 100 [vA r, a1, a2, a3, a4, a5, a6] (vA r :: S) h Q := wp_aload rfl rfl
theorem s242_100 : WP 242 0 100 [a0, vI x, a2, a3, a4, a5, a6] S h Q ↔ WP 242 0 101 [a0, vI x, a2, a3, a4, a5, a6] (vI x :: S) h Q := wp_iload rfl rfl
theorem s242_101 : WP 242 0 101 [a0, a1, a2, vI x, a4, a5, a6] S h Q ↔ WP 242 0 102 [a0, a1, a2, vI x, a4, a5, a6] (vI x :: S) h Q := wp_iload rfl rfl
theorem s242_102 : WP 242 0 102 [a0, a1, a2, a3, a4, a5, vI x] S h Q ↔ WP 242 0 104 [a0, a1, a2, a3, a4, a5, vI x] (vI x :: S) h Q := wp_iload rfl rfl
theorem s242_104 : WP 242 0 104 L (vI x2 :: vI x1 :: vI x0 :: vA (some a) :: S) h Q ↔ ((hk h a).1 = 110 ∧ (zw S ≤ 8 ∧ WP 180 0 0 [vA (some a), vI x0, vI x1, vI x2] [] h (zret 242 0 104 107 L S Q))) := wp_V1 (c := 110) rfl rfl (fun _ => rfl) rfl rfl (zcan_of rfl rfl) rfl rfl rfl
theorem s242_107 : WP 242 0 107 L (vI y :: vI x :: S) h Q ↔ zif (x = y) (WP 242 0 110 L S h Q) (WP 242 0 114 L S h Q) := wp_bN zc_eq rfl rfl rfl
theorem s242_110 : WP 242 0 110 L S h Q ↔ WP 242 0 111 L (vI 1 :: S) h Q := wp_pl rfl rfl rfl
theorem s242_111 : WP 242 0 111 L S h Q ↔ WP 242 0 115 L S h Q := wp_pl rfl rfl rfl
theorem s242_114 : WP 242 0 114 L S h Q ↔ WP 242 0 115 L (vI 0 :: S) h Q := wp_pl rfl rfl rfl
theorem s242_115 : WP 242 0 115 [a0, a1, a2, a3, a4, a5, a6] (vI x :: S) h Q ↔ WP 242 0 117 [a0, a1, a2, a3, a4, vI x, a6] S h Q := wp_istore rfl rfl rfl
theorem s242_117 : WP 242 0 117 [a0, a1, a2, a3, a4, a5, vI x] S h Q ↔ WP 242 0 120 [a0, a1, a2, a3, a4, a5, vI (wr (x + 1))] S h Q := wp_iinc rfl rfl rfl
theorem s242_120 : WP 242 0 120 L S h Q ↔ WP 242 0 75 L S h Q := wp_pl rfl rfl rfl
theorem s242_123 : WP 242 0 123 [a0, a1, a2, a3, a4, vI x, a6] S h Q ↔ WP 242 0 125 [a0, a1, a2, a3, a4, vI x, a6] (vI x :: S) h Q := wp_iload rfl rfl
theorem s242_125 : WP 242 0 125 L (vI x :: S) h Q ↔ zif (x = 0) (WP 242 0 146 L S h Q) (WP 242 0 128 L S h Q) := wp_bE zc_eq rfl rfl rfl
theorem s242_128 : WP 242 0 128 [vA r, a1, a2, a3, a4, a5, a6] S h Q ↔ WP 242 0 129 [vA r, a1, a2, a3, a4, a5, a6] (vA r :: S) h Q := wp_aload rfl rfl
theorem s242_129 : WP 242 0 129 L (vA (some a) :: S) h Q ↔ (zhas 73 (hk h a) = true ∧ WP 242 0 132 L (hm h a 73 :: S) h Q) := wp_if rfl rfl rfl
theorem s242_132 : WP 242 0 132 [a0, a1, vI x, a3, a4, a5, a6] S h Q ↔ WP 242 0 133 [a0, a1, vI x, a3, a4, a5, a6] (vI x :: S) h Q := wp_iload rfl rfl
theorem s242_133 : WP 242 0 133 L (vI y :: vA r :: S) h Q ↔ WP 242 0 134 L (vI y :: vA r :: vI y :: vA r :: S) h Q := wp_pl rfl rfl rfl
theorem s242_133l : WP 242 0 133 L (vL x :: S) h Q ↔ WP 242 0 134 L (vL x :: vL x :: S) h Q := wp_pl rfl rfl rfl
theorem s242_134 : WP 242 0 134 L (vI x :: vA (some a) :: S) h Q ↔ (((hk h a).1 = 4 ∧ 0 ≤ x ∧ x < ((hk h a).2 : Int)) ∧ WP 242 0 135 L (hm h a x.toNat :: S) h Q) := wp_if rfl rfl rfl
theorem s242_135 : WP 242 0 135 [vA r, a1, a2, a3, a4, a5, a6] S h Q ↔ WP 242 0 136 [vA r, a1, a2, a3, a4, a5, a6] (vA r :: S) h Q := wp_aload rfl rfl
theorem s242_136 : WP 242 0 136 L (vA (some a) :: S) h Q ↔ (zhas 73 (hk h a) = true ∧ WP 242 0 139 L (hm h a 73 :: S) h Q) := wp_if rfl rfl rfl
theorem s242_139 : WP 242 0 139 [a0, a1, vI x, a3, a4, a5, a6] S h Q ↔ WP 242 0 140 [a0, a1, vI x, a3, a4, a5, a6] (vI x :: S) h Q := wp_iload rfl rfl
theorem s242_140 : WP 242 0 140 [a0, a1, a2, a3, vI x, a5, a6] S h Q ↔ WP 242 0 142 [a0, a1, a2, a3, vI x, a5, a6] (vI x :: S) h Q := wp_iload rfl rfl
theorem s242_142 : WP 242 0 142 L (vI y :: vI x :: S) h Q ↔ WP 242 0 143 L (vI (wr (x - y)) :: S) h Q := wp_pl rfl rfl rfl
theorem s242_143 : WP 242 0 143 L (vI x :: vA (some a) :: S) h Q ↔ (((hk h a).1 = 4 ∧ 0 ≤ x ∧ x < ((hk h a).2 : Int)) ∧ WP 242 0 144 L (hm h a x.toNat :: S) h Q) := wp_if rfl rfl rfl
theorem s242_144 : WP 242 0 144 L (vL y :: vL x :: S) h Q ↔ WP 242 0 145 L (vL (wl (x + y)) :: S) h Q := wp_pl rfl rfl rfl
theorem s242_145 : WP 242 0 145 L (vL y :: vI x :: vA (some a) :: S) h Q ↔ (((hk h a).1 = 4 ∧ (0 ≤ x ∧ x < ((hk h a).2 : Int)) ∧ zNC ≤ a) ∧ WP 242 0 146 L S (hput h a x.toNat (vL y)) Q) := wp_if rfl rfl rfl
theorem s242_146 : WP 242 0 146 [a0, a1, a2, vI x, a4, a5, a6] S h Q ↔ WP 242 0 149 [a0, a1, a2, vI (wr (x + 1)), a4, a5, a6] S h Q := wp_iinc rfl rfl rfl
theorem s242_149 : WP 242 0 149 L S h Q ↔ WP 242 0 41 L S h Q := wp_pl rfl rfl rfl
theorem s242_152 : WP 242 0 152 [a0, a1, vI x, a3, a4, a5, a6] S h Q ↔ WP 242 0 155 [a0, a1, vI (wr (x + 1)), a3, a4, a5, a6] S h Q := wp_iinc rfl rfl rfl
theorem s242_155 : WP 242 0 155 L S h Q ↔ WP 242 0 24 L S h Q := wp_pl rfl rfl rfl
theorem s242_158 : WP 242 0 158 [vA r, a1, a2, a3, a4, a5, a6] S h Q ↔ WP 242 0 159 [vA r, a1, a2, a3, a4, a5, a6] (vA r :: S) h Q := wp_aload rfl rfl
theorem s242_159 : WP 242 0 159 L (vA (some a) :: S) h Q ↔ (zhas 73 (hk h a) = true ∧ WP 242 0 162 L (hm h a 73 :: S) h Q) := wp_if rfl rfl rfl
theorem s242_162 : WP 242 0 162 [vA r, a1, a2, a3, a4, a5, a6] S h Q ↔ WP 242 0 163 [vA r, a1, a2, a3, a4, a5, a6] (vA r :: S) h Q := wp_aload rfl rfl
theorem s242_163 : WP 242 0 163 L (vA (some a) :: S) h Q ↔ (zhas 59 (hk h a) = true ∧ WP 242 0 166 L (hm h a 59 :: S) h Q) := wp_if rfl rfl rfl
theorem s242_166 : WP 242 0 166 L (vI x :: vA (some a) :: S) h Q ↔ (((hk h a).1 = 4 ∧ 0 ≤ x ∧ x < ((hk h a).2 : Int)) ∧ WP 242 0 167 L (hm h a x.toNat :: S) h Q) := wp_if rfl rfl rfl
theorem s242_167 : WP 242 0 167 L [vL x] h Q ↔ Q (.inl (some (vL x))) h := wp_lret rfl
/-! RepeatFreeModel.startsSearch()V -/
theorem s243_0 : WP 243 0 0 [vA r] S h Q ↔ WP 243 0 1 [vA r] (vA r :: S) h Q := wp_aload rfl rfl
theorem s243_1 : WP 243 0 1 L S h Q ↔ WP 243 0 2 L (vI 0 :: S) h Q := wp_pl rfl rfl rfl
theorem s243_2 : WP 243 0 2 L (vI x :: vA (some a) :: S) h Q ↔ ((zNC ≤ a ∧ zhas 65 (hk h a) = true) ∧ WP 243 0 5 L S (hput h a 65 (vI x)) Q) := wp_put0 rfl rfl
theorem s243_5 : WP 243 0 5 [vA r] S h Q ↔ WP 243 0 6 [vA r] (vA r :: S) h Q := wp_aload rfl rfl
theorem s243_6 : WP 243 0 6 L S h Q ↔ WP 243 0 7 L (vI 0 :: S) h Q := wp_pl rfl rfl rfl
theorem s243_7 : WP 243 0 7 L (vI x :: vA (some a) :: S) h Q ↔ ((zNC ≤ a ∧ zhas 66 (hk h a) = true) ∧ WP 243 0 10 L S (hput h a 66 (vI x)) Q) := wp_put0 rfl rfl
theorem s243_10 : WP 243 0 10 [vA r] S h Q ↔ WP 243 0 11 [vA r] (vA r :: S) h Q := wp_aload rfl rfl
theorem s243_11 : WP 243 0 11 L S h Q ↔ WP 243 0 12 L (vI 0 :: S) h Q := wp_pl rfl rfl rfl
theorem s243_12 : WP 243 0 12 L (vI x :: vA (some a) :: S) h Q ↔ ((zNC ≤ a ∧ zhas 67 (hk h a) = true ∧ (x = 0 ∨ x = 1)) ∧ WP 243 0 15 L S (hput h a 67 (vI x)) Q) := wp_put1 rfl rfl
theorem s243_15 : WP 243 0 15 [vA r] S h Q ↔ WP 243 0 16 [vA r] (vA r :: S) h Q := wp_aload rfl rfl
theorem s243_16 : WP 243 0 16 L S h Q ↔ WP 243 0 17 L (vI 0 :: S) h Q := wp_pl rfl rfl rfl
theorem s243_17 : WP 243 0 17 L (vI x :: vA (some a) :: S) h Q ↔ ((zNC ≤ a ∧ zhas 70 (hk h a) = true ∧ (x = 0 ∨ x = 1)) ∧ WP 243 0 20 L S (hput h a 70 (vI x)) Q) := wp_put1 rfl rfl
theorem s243_20 : WP 243 0 20 L [] h Q ↔ Q (.inl none) h := wp_ret rfl
/-! RepeatFreeModel.stuck(I)I -/
theorem s244_0 : WP 244 0 0 [vA r, a1] S h Q ↔ WP 244 0 1 [vA r, a1] (vA r :: S) h Q := wp_aload rfl rfl
theorem s244_1 : WP 244 0 1 L S h Q ↔ WP 244 0 2 L (vI 0 :: S) h Q := wp_pl rfl rfl rfl
theorem s244_2 : WP 244 0 2 L (vI x :: vA (some a) :: S) h Q ↔ ((zNC ≤ a ∧ zhas 45 (hk h a) = true) ∧ WP 244 0 5 L S (hput h a 45 (vI x)) Q) := wp_put0 rfl rfl
theorem s244_5 : WP 244 0 5 [vA r, a1] S h Q ↔ WP 244 0 6 [vA r, a1] (vA r :: S) h Q := wp_aload rfl rfl
theorem s244_6 : WP 244 0 6 [a0, vI x] S h Q ↔ WP 244 0 7 [a0, vI x] (vI x :: S) h Q := wp_iload rfl rfl
theorem s244_7 : WP 244 0 7 L S h Q ↔ WP 244 0 8 L (vI 0 :: S) h Q := wp_pl rfl rfl rfl
theorem s244_8 : WP 244 0 8 L S h Q ↔ WP 244 0 10 L (vI 40 :: S) h Q := wp_pl rfl rfl rfl
theorem s244_10 : WP 244 0 10 L (vI x2 :: vI x1 :: vI x0 :: S) h Q ↔ (zw S ≤ 8 ∧ WP 183 0 0 [vI x0, vI x1, vI x2] [] h (zret 244 0 10 13 L S Q)) := wp_S rfl rfl (zcan_of rfl rfl) rfl rfl rfl
theorem s244_13 : WP 244 0 13 L (vI x :: S) h Q ↔ zif (x = 0) (WP 244 0 16 L S h Q) (WP 244 0 20 L S h Q) := wp_bN zc_eq rfl rfl rfl
theorem s244_16 : WP 244 0 16 L S h Q ↔ WP 244 0 17 L (vI 1 :: S) h Q := wp_pl rfl rfl rfl
theorem s244_17 : WP 244 0 17 L S h Q ↔ WP 244 0 21 L S h Q := wp_pl rfl rfl rfl
theorem s244_20 : WP 244 0 20 L S h Q ↔ WP 244 0 21 L (vI 0 :: S) h Q := wp_pl rfl rfl rfl
theorem s244_21 : WP 244 0 21 L S h Q ↔ WP 244 0 22 L (vI 1 :: S) h Q := wp_pl rfl rfl rfl
theorem s244_22 : WP 244 0 22 L (vI x1 :: vI x0 :: vA (some a) :: S) h Q ↔ ((hk h a).1 = 110 ∧ (zw S ≤ 8 ∧ WP 248 0 0 [vA (some a), vI x0, vI x1] [] h (zret 244 0 22 25 L S Q))) := wp_V1 (c := 110) rfl rfl (fun _ => rfl) rfl rfl (zcan_of rfl rfl) rfl rfl rfl
theorem s244_25 : WP 244 0 25 L (vI x :: S) h Q ↔ zif (x = 0) (WP 244 0 30 L S h Q) (WP 244 0 28 L S h Q) := wp_bE zc_eq rfl rfl rfl
theorem s244_28 : WP 244 0 28 L S h Q ↔ WP 244 0 29 L (vI 0 :: S) h Q := wp_pl rfl rfl rfl
theorem s244_29 : WP 244 0 29 L [vI x] h Q ↔ Q (.inl (some (vI x))) h := wp_iret0 rfl rfl
theorem s244_30 : WP 244 0 30 [vA r, a1] S h Q ↔ WP 244 0 31 [vA r, a1] (vA r :: S) h Q := wp_aload rfl rfl
theorem s244_31 : WP 244 0 31 [a0, vI x] S h Q ↔ WP 244 0 32 [a0, vI x] (vI x :: S) h Q := wp_iload rfl rfl
theorem s244_32 : WP 244 0 32 L S h Q ↔ WP 244 0 33 L (vI 2 :: S) h Q := wp_pl rfl rfl rfl
theorem s244_33 : WP 244 0 33 L (vI x1 :: vI x0 :: vA (some a) :: S) h Q ↔ ((hk h a).1 = 110 ∧ (zw S ≤ 8 ∧ WP 152 0 0 [vA (some a), vI x0, vI x1, vJ] [] h (zret 244 0 33 36 L S Q))) := wp_V1 (c := 110) rfl rfl (fun _ => rfl) rfl rfl (zcan_of rfl rfl) rfl rfl rfl
theorem s244_36 : WP 244 0 36 L [vI x] h Q ↔ Q (.inl (some (vI x))) h := wp_iret0 rfl rfl
/-! RepeatFreeModel.takes()V -/
theorem s245_0 : WP 245 0 0 L S h Q ↔ WP 245 0 1 L (vI 0 :: S) h Q := wp_pl rfl rfl rfl
theorem s245_1 : WP 245 0 1 [a0, a1] (vI x :: S) h Q ↔ WP 245 0 2 [a0, vI x] S h Q := wp_istore rfl rfl rfl
theorem s245_2 : WP 245 0 2 [a0, vI x] S h Q ↔ WP 245 0 3 [a0, vI x] (vI x :: S) h Q := wp_iload rfl rfl
theorem s245_3 : WP 245 0 3 [vA r, a1] S h Q ↔ WP 245 0 4 [vA r, a1] (vA r :: S) h Q := wp_aload rfl rfl
theorem s245_4 : WP 245 0 4 L (vA (some a) :: S) h Q ↔ (zhas 59 (hk h a) = true ∧ WP 245 0 7 L (hm h a 59 :: S) h Q) := wp_if rfl rfl rfl
theorem s245_7 : WP 245 0 7 L (vI y :: vI x :: S) h Q ↔ zif (x < y) (WP 245 0 10 L S h Q) (WP 245 0 28 L S h Q) := wp_bN zc_lt rfl rfl rfl
theorem s245_10 : WP 245 0 10 [vA r, a1] S h Q ↔ WP 245 0 11 [vA r, a1] (vA r :: S) h Q := wp_aload rfl rfl
theorem s245_11 : WP 245 0 11 L (vA (some a) :: S) h Q ↔ (zhas 64 (hk h a) = true ∧ WP 245 0 14 L (hm h a 64 :: S) h Q) := wp_if rfl rfl rfl
theorem s245_14 : WP 245 0 14 [a0, vI x] S h Q ↔ WP 245 0 15 [a0, vI x] (vI x :: S) h Q := wp_iload rfl rfl
theorem s245_15 : WP 245 0 15 [vA r, a1] S h Q ↔ WP 245 0 16 [vA r, a1] (vA r :: S) h Q := wp_aload rfl rfl
theorem s245_16 : WP 245 0 16 L (vA (some a) :: S) h Q ↔ (zhas 57 (hk h a) = true ∧ WP 245 0 19 L (hm h a 57 :: S) h Q) := wp_if rfl rfl rfl
theorem s245_19 : WP 245 0 19 [a0, vI x] S h Q ↔ WP 245 0 20 [a0, vI x] (vI x :: S) h Q := wp_iload rfl rfl
theorem s245_20 : WP 245 0 20 L (vI x :: vA (some a) :: S) h Q ↔ (((hk h a).1 = 1 ∧ 0 ≤ x ∧ x < ((hk h a).2 : Int)) ∧ WP 245 0 21 L (hm h a x.toNat :: S) h Q) := wp_if rfl rfl rfl
theorem s245_21 : WP 245 0 21 L (vI y :: vI x :: vA (some a) :: S) h Q ↔ (((hk h a).1 = 1 ∧ (0 ≤ x ∧ x < ((hk h a).2 : Int)) ∧ zNC ≤ a) ∧ WP 245 0 22 L S (hput h a x.toNat (vI y)) Q) := wp_if rfl rfl rfl
theorem s245_22 : WP 245 0 22 [a0, vI x] S h Q ↔ WP 245 0 25 [a0, vI (wr (x + 1))] S h Q := wp_iinc rfl rfl rfl
theorem s245_25 : WP 245 0 25 L S h Q ↔ WP 245 0 2 L S h Q := wp_pl rfl rfl rfl
theorem s245_28 : WP 245 0 28 L [] h Q ↔ Q (.inl none) h := wp_ret rfl
/-! RepeatFreeModel.takesWord(Ljava/lang/String;)Z -/
theorem s246_0 : WP 246 0 0 [vA r, a1, a2] S h Q ↔ WP 246 0 1 [vA r, a1, a2] (vA r :: S) h Q := wp_aload rfl rfl
theorem s246_1 : WP 246 0 1 [a0, vA r, a2] S h Q ↔ WP 246 0 2 [a0, vA r, a2] (vA r :: S) h Q := wp_aload rfl rfl
theorem s246_2 : WP 246 0 2 L (vA r0 :: vA (some a) :: S) h Q ↔ ((hk h a).1 = 110 ∧ (zw S ≤ 8 ∧ WP 193 0 0 [vA (some a), vA r0, vJ, vJ] [] h (zret 246 0 2 5 L S Q))) := wp_V1 (c := 110) rfl rfl (fun _ => rfl) rfl rfl (zcan_of rfl rfl) rfl rfl rfl
theorem s246_5 : WP 246 0 5 [a0, a1, a2] (vI x :: S) h Q ↔ WP 246 0 6 [a0, a1, vI x] S h Q := wp_istore rfl rfl rfl
theorem s246_6 : WP 246 0 6 [a0, a1, vI x] S h Q ↔ WP 246 0 7 [a0, a1, vI x] (vI x :: S) h Q := wp_iload rfl rfl
theorem s246_7 : WP 246 0 7 L (vI x :: S) h Q ↔ zif (x = 0) (WP 246 0 23 L S h Q) (WP 246 0 10 L S h Q) := wp_bE zc_eq rfl rfl rfl
theorem s246_10 : WP 246 0 10 [vA r, a1, a2] S h Q ↔ WP 246 0 11 [vA r, a1, a2] (vA r :: S) h Q := wp_aload rfl rfl
theorem s246_11 : WP 246 0 11 L (vA r :: S) h Q ↔ WP 246 0 12 L (vA r :: vA r :: S) h Q := wp_pl rfl rfl rfl
theorem s246_11i : WP 246 0 11 L (vI x :: S) h Q ↔ WP 246 0 12 L (vI x :: vI x :: S) h Q := wp_pl rfl rfl rfl
theorem s246_12 : WP 246 0 12 L (vA (some a) :: S) h Q ↔ (zhas 49 (hk h a) = true ∧ WP 246 0 15 L (hm h a 49 :: S) h Q) := wp_if rfl rfl rfl
theorem s246_15 : WP 246 0 15 [a0, vA r, a2] S h Q ↔ WP 246 0 16 [a0, vA r, a2] (vA r :: S) h Q := wp_aload rfl rfl
theorem s246_16 : WP 246 0 16 L (vA (some a) :: S) h Q ↔ ((hk h a).1 = 117 ∧ (zw S ≤ 8 ∧ WP 323 0 0 [vA (some a)] [] h (zret 246 0 16 19 L S Q))) := wp_V1 (c := 117) rfl rfl (fun _ => rfl) rfl rfl (zcan_of rfl rfl) rfl rfl rfl
theorem s246_19 : WP 246 0 19 L (vI y :: vI x :: S) h Q ↔ WP 246 0 20 L (vI (wr (x + y)) :: S) h Q := wp_pl rfl rfl rfl
theorem s246_20 : WP 246 0 20 L (vI x :: vA (some a) :: S) h Q ↔ ((zNC ≤ a ∧ zhas 49 (hk h a) = true) ∧ WP 246 0 23 L S (hput h a 49 (vI x)) Q) := wp_put0 rfl rfl
theorem s246_23 : WP 246 0 23 [a0, a1, vI x] S h Q ↔ WP 246 0 24 [a0, a1, vI x] (vI x :: S) h Q := wp_iload rfl rfl
theorem s246_24 : WP 246 0 24 L [vI x] h Q ↔ ((x = 0 ∨ x = 1) ∧ Q (.inl (some (vI x))) h) := wp_iret rfl rfl
/-! RepeatFreeModel.thrown()I -/
theorem s247_0 : WP 247 0 0 [vA r] S h Q ↔ WP 247 0 1 [vA r] (vA r :: S) h Q := wp_aload rfl rfl
theorem s247_1 : WP 247 0 1 L (vA (some a) :: S) h Q ↔ (zhas 45 (hk h a) = true ∧ WP 247 0 4 L (hm h a 45 :: S) h Q) := wp_if rfl rfl rfl
theorem s247_4 : WP 247 0 4 L [vI x] h Q ↔ Q (.inl (some (vI x))) h := wp_iret0 rfl rfl
/-! RepeatFreeModel.throwsIf(ZI)Z -/
theorem s248_0 : WP 248 0 0 [a0, vI x, a2] S h Q ↔ WP 248 0 1 [a0, vI x, a2] (vI x :: S) h Q := wp_iload rfl rfl
theorem s248_1 : WP 248 0 1 L (vI x :: S) h Q ↔ zif (x = 0) (WP 248 0 9 L S h Q) (WP 248 0 4 L S h Q) := wp_bE zc_eq rfl rfl rfl
theorem s248_4 : WP 248 0 4 [vA r, a1, a2] S h Q ↔ WP 248 0 5 [vA r, a1, a2] (vA r :: S) h Q := wp_aload rfl rfl
theorem s248_5 : WP 248 0 5 [a0, a1, vI x] S h Q ↔ WP 248 0 6 [a0, a1, vI x] (vI x :: S) h Q := wp_iload rfl rfl
theorem s248_6 : WP 248 0 6 L (vI x :: vA (some a) :: S) h Q ↔ ((zNC ≤ a ∧ zhas 45 (hk h a) = true) ∧ WP 248 0 9 L S (hput h a 45 (vI x)) Q) := wp_put0 rfl rfl
theorem s248_9 : WP 248 0 9 [a0, vI x, a2] S h Q ↔ WP 248 0 10 [a0, vI x, a2] (vI x :: S) h Q := wp_iload rfl rfl
theorem s248_10 : WP 248 0 10 L [vI x] h Q ↔ ((x = 0 ∨ x = 1) ∧ Q (.inl (some (vI x))) h) := wp_iret rfl rfl
/-! RepeatFreeModel.turned()I -/
theorem s249_0 : WP 249 0 0 [vA r, a1, a2, a3] S h Q ↔ WP 249 0 1 [vA r, a1, a2, a3] (vA r :: S) h Q := wp_aload rfl rfl
theorem s249_1 : WP 249 0 1 L S h Q ↔ WP 249 0 2 L (vI 0 :: S) h Q := wp_pl rfl rfl rfl
theorem s249_2 : WP 249 0 2 L (vI x :: vA (some a) :: S) h Q ↔ ((zNC ≤ a ∧ zhas 45 (hk h a) = true) ∧ WP 249 0 5 L S (hput h a 45 (vI x)) Q) := wp_put0 rfl rfl
theorem s249_5 : WP 249 0 5 [vA r, a1, a2, a3] S h Q ↔ WP 249 0 6 [vA r, a1, a2, a3] (vA r :: S) h Q := wp_aload rfl rfl
theorem s249_6 : WP 249 0 6 L (vA (some a) :: S) h Q ↔ (zhas 59 (hk h a) = true ∧ WP 249 0 9 L (hm h a 59 :: S) h Q) := wp_if rfl rfl rfl
theorem s249_9 : WP 249 0 9 L (vI x :: S) h Q ↔ zif (x = 0) (WP 249 0 12 L S h Q) (WP 249 0 16 L S h Q) := wp_bN zc_eq rfl rfl rfl
theorem s249_12 : WP 249 0 12 L S h Q ↔ WP 249 0 13 L (vI (-1) :: S) h Q := wp_pl rfl rfl rfl
theorem s249_13 : WP 249 0 13 L S h Q ↔ WP 249 0 17 L S h Q := wp_pl rfl rfl rfl
theorem s249_16 : WP 249 0 16 L S h Q ↔ WP 249 0 17 L (vI 0 :: S) h Q := wp_pl rfl rfl rfl
theorem s249_17 : WP 249 0 17 [a0, a1, a2, a3] (vI x :: S) h Q ↔ WP 249 0 18 [a0, vI x, a2, a3] S h Q := wp_istore rfl rfl rfl
theorem s249_18 : WP 249 0 18 L S h Q ↔ WP 249 0 19 L (vI 1 :: S) h Q := wp_pl rfl rfl rfl
theorem s249_19 : WP 249 0 19 [a0, a1, a2, a3] (vI x :: S) h Q ↔ WP 249 0 20 [a0, a1, vI x, a3] S h Q := wp_istore rfl rfl rfl
theorem s249_20 : WP 249 0 20 [a0, a1, vI x, a3] S h Q ↔ WP 249 0 21 [a0, a1, vI x, a3] (vI x :: S) h Q := wp_iload rfl rfl
theorem s249_21 : WP 249 0 21 [vA r, a1, a2, a3] S h Q ↔ WP 249 0 22 [vA r, a1, a2, a3] (vA r :: S) h Q := wp_aload rfl rfl
theorem s249_22 : WP 249 0 22 L (vA (some a) :: S) h Q ↔ (zhas 59 (hk h a) = true ∧ WP 249 0 25 L (hm h a 59 :: S) h Q) := wp_if rfl rfl rfl
theorem s249_25 : WP 249 0 25 L (vI y :: vI x :: S) h Q ↔ zif (x < y) (WP 249 0 28 L S h Q) (WP 249 0 118 L S h Q) := wp_bN zc_lt rfl rfl rfl
theorem s249_28 : WP 249 0 28 L S h Q ↔ WP 249 0 29 L (vI 0 :: S) h Q := wp_pl rfl rfl rfl
theorem s249_29 : WP 249 0 29 [a0, a1, a2, a3] (vI x :: S) h Q ↔ WP 249 0 30 [a0, a1, a2, vI x] S h Q := wp_istore rfl rfl rfl
theorem s249_30 : WP 249 0 30 [a0, a1, a2, vI x] S h Q ↔ WP 249 0 31 [a0, a1, a2, vI x] (vI x :: S) h Q := wp_iload rfl rfl
theorem s249_31 : WP 249 0 31 [vA r, a1, a2, a3] S h Q ↔ WP 249 0 32 [vA r, a1, a2, a3] (vA r :: S) h Q := wp_aload rfl rfl
theorem s249_32 : WP 249 0 32 L (vA (some a) :: S) h Q ↔ (zhas 59 (hk h a) = true ∧ WP 249 0 35 L (hm h a 59 :: S) h Q) := wp_if rfl rfl rfl
theorem s249_35 : WP 249 0 35 L (vI y :: vI x :: S) h Q ↔ zif (x < y) (WP 249 0 38 L S h Q) (WP 249 0 73 L S h Q) := wp_bN zc_lt rfl rfl rfl
theorem s249_38 : WP 249 0 38 [vA r, a1, a2, a3] S h Q ↔ WP 249 0 39 [vA r, a1, a2, a3] (vA r :: S) h Q := wp_aload rfl rfl
theorem s249_39 : WP 249 0 39 L (vA (some a) :: S) h Q ↔ (zhas 57 (hk h a) = true ∧ WP 249 0 42 L (hm h a 57 :: S) h Q) := wp_if rfl rfl rfl
theorem s249_42 : WP 249 0 42 [a0, a1, vI x, a3] S h Q ↔ WP 249 0 43 [a0, a1, vI x, a3] (vI x :: S) h Q := wp_iload rfl rfl
theorem s249_43 : WP 249 0 43 [a0, a1, a2, vI x] S h Q ↔ WP 249 0 44 [a0, a1, a2, vI x] (vI x :: S) h Q := wp_iload rfl rfl
theorem s249_44 : WP 249 0 44 L (vI y :: vI x :: S) h Q ↔ WP 249 0 45 L (vI (wr (x + y)) :: S) h Q := wp_pl rfl rfl rfl
theorem s249_45 : WP 249 0 45 [vA r, a1, a2, a3] S h Q ↔ WP 249 0 46 [vA r, a1, a2, a3] (vA r :: S) h Q := wp_aload rfl rfl
theorem s249_46 : WP 249 0 46 L (vA (some a) :: S) h Q ↔ (zhas 59 (hk h a) = true ∧ WP 249 0 49 L (hm h a 59 :: S) h Q) := wp_if rfl rfl rfl
theorem s249_49 : WP 249 0 49 L (vI y :: vI x :: S) h Q ↔ (¬ y = 0 ∧ WP 249 0 50 L (vI (x.tmod y) :: S) h Q) := wp_ifx rfl rfl rfl
theorem s249_50 : WP 249 0 50 L (vI x :: vA (some a) :: S) h Q ↔ (((hk h a).1 = 1 ∧ 0 ≤ x ∧ x < ((hk h a).2 : Int)) ∧ WP 249 0 51 L (hm h a x.toNat :: S) h Q) := wp_if rfl rfl rfl
theorem s249_51 : WP 249 0 51 [vA r, a1, a2, a3] S h Q ↔ WP 249 0 52 [vA r, a1, a2, a3] (vA r :: S) h Q := wp_aload rfl rfl
theorem s249_52 : WP 249 0 52 L (vA (some a) :: S) h Q ↔ (zhas 57 (hk h a) = true ∧ WP 249 0 55 L (hm h a 57 :: S) h Q) := wp_if rfl rfl rfl
theorem s249_55 : WP 249 0 55 [a0, vI x, a2, a3] S h Q ↔ WP 249 0 56 [a0, vI x, a2, a3] (vI x :: S) h Q := wp_iload rfl rfl
theorem s249_56 : WP 249 0 56 [a0, a1, a2, vI x] S h Q ↔ WP 249 0 57 [a0, a1, a2, vI x] (vI x :: S) h Q := wp_iload rfl rfl
theorem s249_57 : WP 249 0 57 L (vI y :: vI x :: S) h Q ↔ WP 249 0 58 L (vI (wr (x + y)) :: S) h Q := wp_pl rfl rfl rfl
theorem s249_58 : WP 249 0 58 [vA r, a1, a2, a3] S h Q ↔ WP 249 0 59 [vA r, a1, a2, a3] (vA r :: S) h Q := wp_aload rfl rfl
theorem s249_59 : WP 249 0 59 L (vA (some a) :: S) h Q ↔ (zhas 59 (hk h a) = true ∧ WP 249 0 62 L (hm h a 59 :: S) h Q) := wp_if rfl rfl rfl
theorem s249_62 : WP 249 0 62 L (vI y :: vI x :: S) h Q ↔ (¬ y = 0 ∧ WP 249 0 63 L (vI (x.tmod y) :: S) h Q) := wp_ifx rfl rfl rfl
theorem s249_63 : WP 249 0 63 L (vI x :: vA (some a) :: S) h Q ↔ (((hk h a).1 = 1 ∧ 0 ≤ x ∧ x < ((hk h a).2 : Int)) ∧ WP 249 0 64 L (hm h a x.toNat :: S) h Q) := wp_if rfl rfl rfl
theorem s249_64 : WP 249 0 64 L (vI y :: vI x :: S) h Q ↔ zif (x = y) (WP 249 0 67 L S h Q) (WP 249 0 73 L S h Q) := wp_bN zc_eq rfl rfl rfl
theorem s249_67 : WP 249 0 67 [a0, a1, a2, vI x] S h Q ↔ WP 249 0 70 [a0, a1, a2, vI (wr (x + 1))] S h Q := wp_iinc rfl rfl rfl
theorem s249_70 : WP 249 0 70 L S h Q ↔ WP 249 0 30 L S h Q := wp_pl rfl rfl rfl
theorem s249_73 : WP 249 0 73 [a0, a1, a2, vI x] S h Q ↔ WP 249 0 74 [a0, a1, a2, vI x] (vI x :: S) h Q := wp_iload rfl rfl
theorem s249_74 : WP 249 0 74 [vA r, a1, a2, a3] S h Q ↔ WP 249 0 75 [vA r, a1, a2, a3] (vA r :: S) h Q := wp_aload rfl rfl
theorem s249_75 : WP 249 0 75 L (vA (some a) :: S) h Q ↔ (zhas 59 (hk h a) = true ∧ WP 249 0 78 L (hm h a 59 :: S) h Q) := wp_if rfl rfl rfl
theorem s249_78 : WP 249 0 78 L (vI y :: vI x :: S) h Q ↔ zif (x < y) (WP 249 0 81 L S h Q) (WP 249 0 112 L S h Q) := wp_bN zc_lt rfl rfl rfl
theorem s249_81 : WP 249 0 81 [vA r, a1, a2, a3] S h Q ↔ WP 249 0 82 [vA r, a1, a2, a3] (vA r :: S) h Q := wp_aload rfl rfl
theorem s249_82 : WP 249 0 82 L (vA (some a) :: S) h Q ↔ (zhas 57 (hk h a) = true ∧ WP 249 0 85 L (hm h a 57 :: S) h Q) := wp_if rfl rfl rfl
theorem s249_85 : WP 249 0 85 [a0, a1, vI x, a3] S h Q ↔ WP 249 0 86 [a0, a1, vI x, a3] (vI x :: S) h Q := wp_iload rfl rfl
theorem s249_86 : WP 249 0 86 [a0, a1, a2, vI x] S h Q ↔ WP 249 0 87 [a0, a1, a2, vI x] (vI x :: S) h Q := wp_iload rfl rfl
theorem s249_87 : WP 249 0 87 L (vI y :: vI x :: S) h Q ↔ WP 249 0 88 L (vI (wr (x + y)) :: S) h Q := wp_pl rfl rfl rfl
theorem s249_88 : WP 249 0 88 [vA r, a1, a2, a3] S h Q ↔ WP 249 0 89 [vA r, a1, a2, a3] (vA r :: S) h Q := wp_aload rfl rfl
theorem s249_89 : WP 249 0 89 L (vA (some a) :: S) h Q ↔ (zhas 59 (hk h a) = true ∧ WP 249 0 92 L (hm h a 59 :: S) h Q) := wp_if rfl rfl rfl
theorem s249_92 : WP 249 0 92 L (vI y :: vI x :: S) h Q ↔ (¬ y = 0 ∧ WP 249 0 93 L (vI (x.tmod y) :: S) h Q) := wp_ifx rfl rfl rfl
theorem s249_93 : WP 249 0 93 L (vI x :: vA (some a) :: S) h Q ↔ (((hk h a).1 = 1 ∧ 0 ≤ x ∧ x < ((hk h a).2 : Int)) ∧ WP 249 0 94 L (hm h a x.toNat :: S) h Q) := wp_if rfl rfl rfl
theorem s249_94 : WP 249 0 94 [vA r, a1, a2, a3] S h Q ↔ WP 249 0 95 [vA r, a1, a2, a3] (vA r :: S) h Q := wp_aload rfl rfl
theorem s249_95 : WP 249 0 95 L (vA (some a) :: S) h Q ↔ (zhas 57 (hk h a) = true ∧ WP 249 0 98 L (hm h a 57 :: S) h Q) := wp_if rfl rfl rfl
theorem s249_98 : WP 249 0 98 [a0, vI x, a2, a3] S h Q ↔ WP 249 0 99 [a0, vI x, a2, a3] (vI x :: S) h Q := wp_iload rfl rfl
theorem s249_99 : WP 249 0 99 [a0, a1, a2, vI x] S h Q ↔ WP 249 0 100 [a0, a1, a2, vI x] (vI x :: S) h Q := wp_iload rfl rfl
theorem s249_100 : WP 249 0 100 L (vI y :: vI x :: S) h Q ↔ WP 249 0 101 L (vI (wr (x + y)) :: S) h Q := wp_pl rfl rfl rfl
theorem s249_101 : WP 249 0 101 [vA r, a1, a2, a3] S h Q ↔ WP 249 0 102 [vA r, a1, a2, a3] (vA r :: S) h Q := wp_aload rfl rfl
theorem s249_102 : WP 249 0 102 L (vA (some a) :: S) h Q ↔ (zhas 59 (hk h a) = true ∧ WP 249 0 105 L (hm h a 59 :: S) h Q) := wp_if rfl rfl rfl
theorem s249_105 : WP 249 0 105 L (vI y :: vI x :: S) h Q ↔ (¬ y = 0 ∧ WP 249 0 106 L (vI (x.tmod y) :: S) h Q) := wp_ifx rfl rfl rfl
theorem s249_106 : WP 249 0 106 L (vI x :: vA (some a) :: S) h Q ↔ (((hk h a).1 = 1 ∧ 0 ≤ x ∧ x < ((hk h a).2 : Int)) ∧ WP 249 0 107 L (hm h a x.toNat :: S) h Q) := wp_if rfl rfl rfl
theorem s249_107 : WP 249 0 107 L (vI y :: vI x :: S) h Q ↔ zif (x < y) (WP 249 0 110 L S h Q) (WP 249 0 112 L S h Q) := wp_bN zc_lt rfl rfl rfl
theorem s249_110 : WP 249 0 110 [a0, a1, vI x, a3] S h Q ↔ WP 249 0 111 [a0, a1, vI x, a3] (vI x :: S) h Q := wp_iload rfl rfl
theorem s249_111 : WP 249 0 111 [a0, a1, a2, a3] (vI x :: S) h Q ↔ WP 249 0 112 [a0, vI x, a2, a3] S h Q := wp_istore rfl rfl rfl
theorem s249_112 : WP 249 0 112 [a0, a1, vI x, a3] S h Q ↔ WP 249 0 115 [a0, a1, vI (wr (x + 1)), a3] S h Q := wp_iinc rfl rfl rfl
theorem s249_115 : WP 249 0 115 L S h Q ↔ WP 249 0 20 L S h Q := wp_pl rfl rfl rfl
theorem s249_118 : WP 249 0 118 [a0, vI x, a2, a3] S h Q ↔ WP 249 0 119 [a0, vI x, a2, a3] (vI x :: S) h Q := wp_iload rfl rfl
theorem s249_119 : WP 249 0 119 L [vI x] h Q ↔ Q (.inl (some (vI x))) h := wp_iret0 rfl rfl
/-! RepeatFreeModel.undo()I -/
theorem s250_0 : WP 250 0 0 [vA r, a1, a2] S h Q ↔ WP 250 0 1 [vA r, a1, a2] (vA r :: S) h Q := wp_aload rfl rfl
theorem s250_1 : WP 250 0 1 L S h Q ↔ WP 250 0 2 L (vI 0 :: S) h Q := wp_pl rfl rfl rfl
theorem s250_2 : WP 250 0 2 L (vI x :: vA (some a) :: S) h Q ↔ ((zNC ≤ a ∧ zhas 45 (hk h a) = true) ∧ WP 250 0 5 L S (hput h a 45 (vI x)) Q) := wp_put0 rfl rfl
theorem s250_5 : WP 250 0 5 [vA r, a1, a2] S h Q ↔ WP 250 0 6 [vA r, a1, a2] (vA r :: S) h Q := wp_aload rfl rfl
theorem s250_6 : WP 250 0 6 L (vA (some a) :: S) h Q ↔ (zhas 60 (hk h a) = true ∧ WP 250 0 9 L (hm h a 60 :: S) h Q) := wp_if rfl rfl rfl
theorem s250_9 : WP 250 0 9 L (vI x :: S) h Q ↔ zif (x = 0) (WP 250 0 12 L S h Q) (WP 250 0 14 L S h Q) := wp_bN zc_eq rfl rfl rfl
theorem s250_12 : WP 250 0 12 L S h Q ↔ WP 250 0 13 L (vI (-1) :: S) h Q := wp_pl rfl rfl rfl
theorem s250_13 : WP 250 0 13 L [vI x] h Q ↔ Q (.inl (some (vI x))) h := wp_iret0 rfl rfl
theorem s250_14 : WP 250 0 14 [vA r, a1, a2] S h Q ↔ WP 250 0 15 [vA r, a1, a2] (vA r :: S) h Q := wp_aload rfl rfl
theorem s250_15 : WP 250 0 15 L (vA r :: S) h Q ↔ WP 250 0 16 L (vA r :: vA r :: S) h Q := wp_pl rfl rfl rfl
theorem s250_15i : WP 250 0 15 L (vI x :: S) h Q ↔ WP 250 0 16 L (vI x :: vI x :: S) h Q := wp_pl rfl rfl rfl
theorem s250_16 : WP 250 0 16 L (vA (some a) :: S) h Q ↔ (zhas 60 (hk h a) = true ∧ WP 250 0 19 L (hm h a 60 :: S) h Q) := wp_if rfl rfl rfl
theorem s250_19 : WP 250 0 19 L S h Q ↔ WP 250 0 20 L (vI 1 :: S) h Q := wp_pl rfl rfl rfl
theorem s250_20 : WP 250 0 20 L (vI y :: vI x :: S) h Q ↔ WP 250 0 21 L (vI (wr (x - y)) :: S) h Q := wp_pl rfl rfl rfl
theorem s250_21 : WP 250 0 21 L (vI x :: vA (some a) :: S) h Q ↔ ((zNC ≤ a ∧ zhas 60 (hk h a) = true) ∧ WP 250 0 24 L S (hput h a 60 (vI x)) Q) := wp_put0 rfl rfl
theorem s250_24 : WP 250 0 24 L S h Q ↔ WP 250 0 26 L (vI 65 :: S) h Q := wp_pl rfl rfl rfl
theorem s250_26 : WP 250 0 26 [vA r, a1, a2] S h Q ↔ WP 250 0 27 [vA r, a1, a2] (vA r :: S) h Q := wp_aload rfl rfl
theorem s250_27 : WP 250 0 27 L (vA (some a) :: S) h Q ↔ (zhas 60 (hk h a) = true ∧ WP 250 0 30 L (hm h a 60 :: S) h Q) := wp_if rfl rfl rfl
theorem s250_30 : WP 250 0 30 L (vI y :: vI x :: S) h Q ↔ WP 250 0 31 L (vI (wr (x * y)) :: S) h Q := wp_pl rfl rfl rfl
theorem s250_31 : WP 250 0 31 [a0, a1, a2] (vI x :: S) h Q ↔ WP 250 0 32 [a0, vI x, a2] S h Q := wp_istore rfl rfl rfl
theorem s250_32 : WP 250 0 32 [vA r, a1, a2] S h Q ↔ WP 250 0 33 [vA r, a1, a2] (vA r :: S) h Q := wp_aload rfl rfl
theorem s250_33 : WP 250 0 33 [vA r, a1, a2] S h Q ↔ WP 250 0 34 [vA r, a1, a2] (vA r :: S) h Q := wp_aload rfl rfl
theorem s250_34 : WP 250 0 34 L (vA (some a) :: S) h Q ↔ (zhas 61 (hk h a) = true ∧ WP 250 0 37 L (hm h a 61 :: S) h Q) := wp_if rfl rfl rfl
theorem s250_37 : WP 250 0 37 [a0, vI x, a2] S h Q ↔ WP 250 0 38 [a0, vI x, a2] (vI x :: S) h Q := wp_iload rfl rfl
theorem s250_38 : WP 250 0 38 L (vI x :: vA (some a) :: S) h Q ↔ (((hk h a).1 = 1 ∧ 0 ≤ x ∧ x < ((hk h a).2 : Int)) ∧ WP 250 0 39 L (hm h a x.toNat :: S) h Q) := wp_if rfl rfl rfl
theorem s250_39 : WP 250 0 39 L (vI x :: vA (some a) :: S) h Q ↔ ((zNC ≤ a ∧ zhas 59 (hk h a) = true) ∧ WP 250 0 42 L S (hput h a 59 (vI x)) Q) := wp_put0 rfl rfl
theorem s250_42 : WP 250 0 42 L S h Q ↔ WP 250 0 43 L (vI 0 :: S) h Q := wp_pl rfl rfl rfl
theorem s250_43 : WP 250 0 43 [a0, a1, a2] (vI x :: S) h Q ↔ WP 250 0 44 [a0, a1, vI x] S h Q := wp_istore rfl rfl rfl
theorem s250_44 : WP 250 0 44 [a0, a1, vI x] S h Q ↔ WP 250 0 45 [a0, a1, vI x] (vI x :: S) h Q := wp_iload rfl rfl
theorem s250_45 : WP 250 0 45 [vA r, a1, a2] S h Q ↔ WP 250 0 46 [vA r, a1, a2] (vA r :: S) h Q := wp_aload rfl rfl
theorem s250_46 : WP 250 0 46 L (vA (some a) :: S) h Q ↔ (zhas 59 (hk h a) = true ∧ WP 250 0 49 L (hm h a 59 :: S) h Q) := wp_if rfl rfl rfl
theorem s250_49 : WP 250 0 49 L (vI y :: vI x :: S) h Q ↔ zif (x < y) (WP 250 0 52 L S h Q) (WP 250 0 74 L S h Q) := wp_bN zc_lt rfl rfl rfl
theorem s250_52 : WP 250 0 52 [vA r, a1, a2] S h Q ↔ WP 250 0 53 [vA r, a1, a2] (vA r :: S) h Q := wp_aload rfl rfl
theorem s250_53 : WP 250 0 53 L (vA (some a) :: S) h Q ↔ (zhas 57 (hk h a) = true ∧ WP 250 0 56 L (hm h a 57 :: S) h Q) := wp_if rfl rfl rfl
theorem s250_56 : WP 250 0 56 [a0, a1, vI x] S h Q ↔ WP 250 0 57 [a0, a1, vI x] (vI x :: S) h Q := wp_iload rfl rfl
theorem s250_57 : WP 250 0 57 [vA r, a1, a2] S h Q ↔ WP 250 0 58 [vA r, a1, a2] (vA r :: S) h Q := wp_aload rfl rfl
theorem s250_58 : WP 250 0 58 L (vA (some a) :: S) h Q ↔ (zhas 61 (hk h a) = true ∧ WP 250 0 61 L (hm h a 61 :: S) h Q) := wp_if rfl rfl rfl
theorem s250_61 : WP 250 0 61 [a0, vI x, a2] S h Q ↔ WP 250 0 62 [a0, vI x, a2] (vI x :: S) h Q := wp_iload rfl rfl
theorem s250_62 : WP 250 0 62 L S h Q ↔ WP 250 0 63 L (vI 1 :: S) h Q := wp_pl rfl rfl rfl
theorem s250_63 : WP 250 0 63 L (vI y :: vI x :: S) h Q ↔ WP 250 0 64 L (vI (wr (x + y)) :: S) h Q := wp_pl rfl rfl rfl
theorem s250_64 : WP 250 0 64 [a0, a1, vI x] S h Q ↔ WP 250 0 65 [a0, a1, vI x] (vI x :: S) h Q := wp_iload rfl rfl
theorem s250_65 : WP 250 0 65 L (vI y :: vI x :: S) h Q ↔ WP 250 0 66 L (vI (wr (x + y)) :: S) h Q := wp_pl rfl rfl rfl
theorem s250_66 : WP 250 0 66 L (vI x :: vA (some a) :: S) h Q ↔ (((hk h a).1 = 1 ∧ 0 ≤ x ∧ x < ((hk h a).2 : Int)) ∧ WP 250 0 67 L (hm h a x.toNat :: S) h Q) := wp_if rfl rfl rfl
theorem s250_67 : WP 250 0 67 L (vI y :: vI x :: vA (some a) :: S) h Q ↔ (((hk h a).1 = 1 ∧ (0 ≤ x ∧ x < ((hk h a).2 : Int)) ∧ zNC ≤ a) ∧ WP 250 0 68 L S (hput h a x.toNat (vI y)) Q) := wp_if rfl rfl rfl
theorem s250_68 : WP 250 0 68 [a0, a1, vI x] S h Q ↔ WP 250 0 71 [a0, a1, vI (wr (x + 1))] S h Q := wp_iinc rfl rfl rfl
theorem s250_71 : WP 250 0 71 L S h Q ↔ WP 250 0 44 L S h Q := wp_pl rfl rfl rfl
theorem s250_74 : WP 250 0 74 [vA r, a1, a2] S h Q ↔ WP 250 0 75 [vA r, a1, a2] (vA r :: S) h Q := wp_aload rfl rfl
theorem s250_75 : WP 250 0 75 L (vA (some a) :: S) h Q ↔ (zhas 60 (hk h a) = true ∧ WP 250 0 78 L (hm h a 60 :: S) h Q) := wp_if rfl rfl rfl
theorem s250_78 : WP 250 0 78 L [vI x] h Q ↔ Q (.inl (some (vI x))) h := wp_iret0 rfl rfl
/-! RepeatFreeModel.uniform(I)I -/
theorem s251_0 : WP 251 0 0 [vA r, a1, a2] S h Q ↔ WP 251 0 1 [vA r, a1, a2] (vA r :: S) h Q := wp_aload rfl rfl
theorem s251_1 : WP 251 0 1 L S h Q ↔ WP 251 0 2 L (vI 0 :: S) h Q := wp_pl rfl rfl rfl
theorem s251_2 : WP 251 0 2 L (vI x :: vA (some a) :: S) h Q ↔ ((zNC ≤ a ∧ zhas 45 (hk h a) = true) ∧ WP 251 0 5 L S (hput h a 45 (vI x)) Q) := wp_put0 rfl rfl
theorem s251_5 : WP 251 0 5 [vA r, a1, a2] S h Q ↔ WP 251 0 6 [vA r, a1, a2] (vA r :: S) h Q := wp_aload rfl rfl
theorem s251_6 : WP 251 0 6 [a0, vI x, a2] S h Q ↔ WP 251 0 7 [a0, vI x, a2] (vI x :: S) h Q := wp_iload rfl rfl
theorem s251_7 : WP 251 0 7 L (vI x0 :: vA (some a) :: S) h Q ↔ ((hk h a).1 = 110 ∧ (zw S ≤ 8 ∧ WP 223 0 0 [vA (some a), vI x0] [] h (zret 251 0 7 10 L S Q))) := wp_V1 (c := 110) rfl rfl (fun _ => rfl) rfl rfl (zcan_of rfl rfl) rfl rfl rfl
theorem s251_10 : WP 251 0 10 L (vI x :: S) h Q ↔ zif (x = 0) (WP 251 0 15 L S h Q) (WP 251 0 13 L S h Q) := wp_bE zc_eq rfl rfl rfl
theorem s251_13 : WP 251 0 13 L S h Q ↔ WP 251 0 14 L (vI 0 :: S) h Q := wp_pl rfl rfl rfl
theorem s251_14 : WP 251 0 14 L [vI x] h Q ↔ Q (.inl (some (vI x))) h := wp_iret0 rfl rfl
theorem s251_15 : WP 251 0 15 L S h Q ↔ WP 251 0 16 L (vI 1 :: S) h Q := wp_pl rfl rfl rfl
theorem s251_16 : WP 251 0 16 [a0, a1, a2] (vI x :: S) h Q ↔ WP 251 0 17 [a0, a1, vI x] S h Q := wp_istore rfl rfl rfl
theorem s251_17 : WP 251 0 17 [a0, a1, vI x] S h Q ↔ WP 251 0 18 [a0, a1, vI x] (vI x :: S) h Q := wp_iload rfl rfl
theorem s251_18 : WP 251 0 18 [vA r, a1, a2] S h Q ↔ WP 251 0 19 [vA r, a1, a2] (vA r :: S) h Q := wp_aload rfl rfl
theorem s251_19 : WP 251 0 19 L (vA (some a) :: S) h Q ↔ (zhas 54 (hk h a) = true ∧ WP 251 0 22 L (hm h a 54 :: S) h Q) := wp_if rfl rfl rfl
theorem s251_22 : WP 251 0 22 L S h Q ↔ WP 251 0 23 L (vI 0 :: S) h Q := wp_pl rfl rfl rfl
theorem s251_23 : WP 251 0 23 L (vI x :: vA (some a) :: S) h Q ↔ (((hk h a).1 = 1 ∧ 0 ≤ x ∧ x < ((hk h a).2 : Int)) ∧ WP 251 0 24 L (hm h a x.toNat :: S) h Q) := wp_if rfl rfl rfl
theorem s251_24 : WP 251 0 24 L (vI y :: vI x :: S) h Q ↔ zif (x < y) (WP 251 0 27 L S h Q) (WP 251 0 50 L S h Q) := wp_bN zc_lt rfl rfl rfl
theorem s251_27 : WP 251 0 27 [vA r, a1, a2] S h Q ↔ WP 251 0 28 [vA r, a1, a2] (vA r :: S) h Q := wp_aload rfl rfl
theorem s251_28 : WP 251 0 28 [a0, vI x, a2] S h Q ↔ WP 251 0 29 [a0, vI x, a2] (vI x :: S) h Q := wp_iload rfl rfl
theorem s251_29 : WP 251 0 29 [a0, a1, vI x] S h Q ↔ WP 251 0 30 [a0, a1, vI x] (vI x :: S) h Q := wp_iload rfl rfl
theorem s251_30 : WP 251 0 30 L (vI x1 :: vI x0 :: vA (some a) :: S) h Q ↔ ((hk h a).1 = 110 ∧ (zw S ≤ 8 ∧ WP 210 0 0 [vA (some a), vI x0, vI x1] [] h (zret 251 0 30 33 L S Q))) := wp_V1 (c := 110) rfl rfl (fun _ => rfl) rfl rfl (zcan_of rfl rfl) rfl rfl rfl
theorem s251_33 : WP 251 0 33 [vA r, a1, a2] S h Q ↔ WP 251 0 34 [vA r, a1, a2] (vA r :: S) h Q := wp_aload rfl rfl
theorem s251_34 : WP 251 0 34 [a0, vI x, a2] S h Q ↔ WP 251 0 35 [a0, vI x, a2] (vI x :: S) h Q := wp_iload rfl rfl
theorem s251_35 : WP 251 0 35 L S h Q ↔ WP 251 0 36 L (vI 0 :: S) h Q := wp_pl rfl rfl rfl
theorem s251_36 : WP 251 0 36 L (vI x1 :: vI x0 :: vA (some a) :: S) h Q ↔ ((hk h a).1 = 110 ∧ (zw S ≤ 8 ∧ WP 210 0 0 [vA (some a), vI x0, vI x1] [] h (zret 251 0 36 39 L S Q))) := wp_V1 (c := 110) rfl rfl (fun _ => rfl) rfl rfl (zcan_of rfl rfl) rfl rfl rfl
theorem s251_39 : WP 251 0 39 L (vI y :: vI x :: S) h Q ↔ zif (x = y) (WP 251 0 44 L S h Q) (WP 251 0 42 L S h Q) := wp_bE zc_eq rfl rfl rfl
theorem s251_42 : WP 251 0 42 L S h Q ↔ WP 251 0 43 L (vI (-1) :: S) h Q := wp_pl rfl rfl rfl
theorem s251_43 : WP 251 0 43 L [vI x] h Q ↔ Q (.inl (some (vI x))) h := wp_iret0 rfl rfl
theorem s251_44 : WP 251 0 44 [a0, a1, vI x] S h Q ↔ WP 251 0 47 [a0, a1, vI (wr (x + 1))] S h Q := wp_iinc rfl rfl rfl
theorem s251_47 : WP 251 0 47 L S h Q ↔ WP 251 0 17 L S h Q := wp_pl rfl rfl rfl
theorem s251_50 : WP 251 0 50 [vA r, a1, a2] S h Q ↔ WP 251 0 51 [vA r, a1, a2] (vA r :: S) h Q := wp_aload rfl rfl
theorem s251_51 : WP 251 0 51 [a0, vI x, a2] S h Q ↔ WP 251 0 52 [a0, vI x, a2] (vI x :: S) h Q := wp_iload rfl rfl
theorem s251_52 : WP 251 0 52 L S h Q ↔ WP 251 0 53 L (vI 0 :: S) h Q := wp_pl rfl rfl rfl
theorem s251_53 : WP 251 0 53 L (vI x1 :: vI x0 :: vA (some a) :: S) h Q ↔ ((hk h a).1 = 110 ∧ (zw S ≤ 8 ∧ WP 210 0 0 [vA (some a), vI x0, vI x1] [] h (zret 251 0 53 56 L S Q))) := wp_V1 (c := 110) rfl rfl (fun _ => rfl) rfl rfl (zcan_of rfl rfl) rfl rfl rfl
theorem s251_56 : WP 251 0 56 L [vI x] h Q ↔ Q (.inl (some (vI x))) h := wp_iret0 rfl rfl
/-! RepeatFreeModel.whole(III)I -/
theorem s252_0 : WP 252 0 0 [vA r, a1, a2, a3, a4, a5] S h Q ↔ WP 252 0 1 [vA r, a1, a2, a3, a4, a5] (vA r :: S) h Q := wp_aload rfl rfl
theorem s252_1 : WP 252 0 1 L S h Q ↔ WP 252 0 2 L (vI 0 :: S) h Q := wp_pl rfl rfl rfl
theorem s252_2 : WP 252 0 2 L (vI x :: vA (some a) :: S) h Q ↔ ((zNC ≤ a ∧ zhas 45 (hk h a) = true) ∧ WP 252 0 5 L S (hput h a 45 (vI x)) Q) := wp_put0 rfl rfl
theorem s252_5 : WP 252 0 5 [vA r, a1, a2, a3, a4, a5] S h Q ↔ WP 252 0 6 [vA r, a1, a2, a3, a4, a5] (vA r :: S) h Q := wp_aload rfl rfl
theorem s252_6 : WP 252 0 6 [a0, vI x, a2, a3, a4, a5] S h Q ↔ WP 252 0 7 [a0, vI x, a2, a3, a4, a5] (vI x :: S) h Q := wp_iload rfl rfl
theorem s252_7 : WP 252 0 7 L (vI x0 :: vA (some a) :: S) h Q ↔ ((hk h a).1 = 110 ∧ (zw S ≤ 8 ∧ WP 224 0 0 [vA (some a), vI x0] [] h (zret 252 0 7 10 L S Q))) := wp_V1 (c := 110) rfl rfl (fun _ => rfl) rfl rfl (zcan_of rfl rfl) rfl rfl rfl
theorem s252_10 : WP 252 0 10 L (vI x :: S) h Q ↔ zif (x = 0) (WP 252 0 13 L S h Q) (WP 252 0 35 L S h Q) := wp_bN zc_eq rfl rfl rfl
theorem s252_13 : WP 252 0 13 [vA r, a1, a2, a3, a4, a5] S h Q ↔ WP 252 0 14 [vA r, a1, a2, a3, a4, a5] (vA r :: S) h Q := wp_aload rfl rfl
theorem s252_14 : WP 252 0 14 [a0, a1, a2, vI x, a4, a5] S h Q ↔ WP 252 0 15 [a0, a1, a2, vI x, a4, a5] (vI x :: S) h Q := wp_iload rfl rfl
theorem s252_15 : WP 252 0 15 L S h Q ↔ WP 252 0 16 L (vI 0 :: S) h Q := wp_pl rfl rfl rfl
theorem s252_16 : WP 252 0 16 L S h Q ↔ WP 252 0 17 L (vI 2 :: S) h Q := wp_pl rfl rfl rfl
theorem s252_17 : WP 252 0 17 L (vI x2 :: vI x1 :: vI x0 :: S) h Q ↔ (zw S ≤ 8 ∧ WP 183 0 0 [vI x0, vI x1, vI x2] [] h (zret 252 0 17 20 L S Q)) := wp_S rfl rfl (zcan_of rfl rfl) rfl rfl rfl
theorem s252_20 : WP 252 0 20 L (vI x :: S) h Q ↔ zif (x = 0) (WP 252 0 23 L S h Q) (WP 252 0 27 L S h Q) := wp_bN zc_eq rfl rfl rfl
theorem s252_23 : WP 252 0 23 L S h Q ↔ WP 252 0 24 L (vI 1 :: S) h Q := wp_pl rfl rfl rfl
theorem s252_24 : WP 252 0 24 L S h Q ↔ WP 252 0 28 L S h Q := wp_pl rfl rfl rfl
theorem s252_27 : WP 252 0 27 L S h Q ↔ WP 252 0 28 L (vI 0 :: S) h Q := wp_pl rfl rfl rfl
theorem s252_28 : WP 252 0 28 L S h Q ↔ WP 252 0 29 L (vI 2 :: S) h Q := wp_pl rfl rfl rfl
theorem s252_29 : WP 252 0 29 L (vI x1 :: vI x0 :: vA (some a) :: S) h Q ↔ ((hk h a).1 = 110 ∧ (zw S ≤ 8 ∧ WP 248 0 0 [vA (some a), vI x0, vI x1] [] h (zret 252 0 29 32 L S Q))) := wp_V1 (c := 110) rfl rfl (fun _ => rfl) rfl rfl (zcan_of rfl rfl) rfl rfl rfl
theorem s252_32 : WP 252 0 32 L (vI x :: S) h Q ↔ zif (x = 0) (WP 252 0 37 L S h Q) (WP 252 0 35 L S h Q) := wp_bE zc_eq rfl rfl rfl
theorem s252_35 : WP 252 0 35 L S h Q ↔ WP 252 0 36 L (vI 0 :: S) h Q := wp_pl rfl rfl rfl
theorem s252_36 : WP 252 0 36 L [vI x] h Q ↔ Q (.inl (some (vI x))) h := wp_iret0 rfl rfl
theorem s252_37 : WP 252 0 37 L S h Q ↔ WP 252 0 38 L (vI 0 :: S) h Q := wp_pl rfl rfl rfl
theorem s252_38 : WP 252 0 38 [a0, a1, a2, a3, a4, a5] (vI x :: S) h Q ↔ WP 252 0 40 [a0, a1, a2, a3, vI x, a5] S h Q := wp_istore rfl rfl rfl
theorem s252_40 : WP 252 0 40 [vA r, a1, a2, a3, a4, a5] S h Q ↔ WP 252 0 41 [vA r, a1, a2, a3, a4, a5] (vA r :: S) h Q := wp_aload rfl rfl
theorem s252_41 : WP 252 0 41 [a0, vI x, a2, a3, a4, a5] S h Q ↔ WP 252 0 42 [a0, vI x, a2, a3, a4, a5] (vI x :: S) h Q := wp_iload rfl rfl
theorem s252_42 : WP 252 0 42 [vA r, a1, a2, a3, a4, a5] S h Q ↔ WP 252 0 43 [vA r, a1, a2, a3, a4, a5] (vA r :: S) h Q := wp_aload rfl rfl
theorem s252_43 : WP 252 0 43 L (vA (some a) :: S) h Q ↔ (zhas 59 (hk h a) = true ∧ WP 252 0 46 L (hm h a 59 :: S) h Q) := wp_if rfl rfl rfl
theorem s252_46 : WP 252 0 46 L (vI x1 :: vI x0 :: vA (some a) :: S) h Q ↔ ((hk h a).1 = 110 ∧ (zw S ≤ 8 ∧ WP 166 0 0 [vA (some a), vI x0, vI x1, vJ] [] h (zret 252 0 46 49 L S Q))) := wp_V1 (c := 110) rfl rfl (fun _ => rfl) rfl rfl (zcan_of rfl rfl) rfl rfl rfl
theorem s252_49 : WP 252 0 49 [a0, a1, a2, a3, a4, a5] (vI x :: S) h Q ↔ WP 252 0 51 [a0, a1, a2, a3, a4, vI x] S h Q := wp_istore rfl rfl rfl
theorem s252_51 : WP 252 0 51 [a0, a1, a2, a3, a4, vI x] S h Q ↔ WP 252 0 53 [a0, a1, a2, a3, a4, vI x] (vI x :: S) h Q := wp_iload rfl rfl
theorem s252_53 : WP 252 0 53 L (vI x :: S) h Q ↔ zif (x = 0) (WP 252 0 111 L S h Q) (WP 252 0 56 L S h Q) := wp_bE zc_eq rfl rfl rfl
theorem s252_56 : WP 252 0 56 [vA r, a1, a2, a3, a4, a5] S h Q ↔ WP 252 0 57 [vA r, a1, a2, a3, a4, a5] (vA r :: S) h Q := wp_aload rfl rfl
theorem s252_57 : WP 252 0 57 [a0, vI x, a2, a3, a4, a5] S h Q ↔ WP 252 0 58 [a0, vI x, a2, a3, a4, a5] (vI x :: S) h Q := wp_iload rfl rfl
theorem s252_58 : WP 252 0 58 L (vI x0 :: vA (some a) :: S) h Q ↔ ((hk h a).1 = 110 ∧ (zw S ≤ 8 ∧ WP 209 0 0 [vA (some a), vI x0, vJ, vJ] [] h (zret 252 0 58 61 L S Q))) := wp_V1 (c := 110) rfl rfl (fun _ => rfl) rfl rfl (zcan_of rfl rfl) rfl rfl rfl
theorem s252_61 : WP 252 0 61 [vA r, a1, a2, a3, a4, a5] S h Q ↔ WP 252 0 62 [vA r, a1, a2, a3, a4, a5] (vA r :: S) h Q := wp_aload rfl rfl
theorem s252_62 : WP 252 0 62 L (vA (some a) :: S) h Q ↔ (zhas 59 (hk h a) = true ∧ WP 252 0 65 L (hm h a 59 :: S) h Q) := wp_if rfl rfl rfl
theorem s252_65 : WP 252 0 65 L (vI y :: vI x :: S) h Q ↔ zif (x = y) (WP 252 0 68 L S h Q) (WP 252 0 97 L S h Q) := wp_bN zc_eq rfl rfl rfl
theorem s252_68 : WP 252 0 68 [vA r, a1, a2, a3, a4, a5] S h Q ↔ WP 252 0 69 [vA r, a1, a2, a3, a4, a5] (vA r :: S) h Q := wp_aload rfl rfl
theorem s252_69 : WP 252 0 69 [vA r, a1, a2, a3, a4, a5] S h Q ↔ WP 252 0 70 [vA r, a1, a2, a3, a4, a5] (vA r :: S) h Q := wp_aload rfl rfl
theorem s252_70 : WP 252 0 70 L (vA (some a) :: S) h Q ↔ (zhas 57 (hk h a) = true ∧ WP 252 0 73 L (hm h a 57 :: S) h Q) := wp_if rfl rfl rfl
theorem s252_73 : WP 252 0 73 L S h Q ↔ WP 252 0 74 L (vI 0 :: S) h Q := wp_pl rfl rfl rfl
theorem s252_74 : WP 252 0 74 [a0, vI x, a2, a3, a4, a5] S h Q ↔ WP 252 0 75 [a0, vI x, a2, a3, a4, a5] (vI x :: S) h Q := wp_iload rfl rfl
theorem s252_75 : WP 252 0 75 L (vI x2 :: vI x1 :: vA r0 :: vA (some a) :: S) h Q ↔ ((hk h a).1 = 110 ∧ (zw S ≤ 8 ∧ WP 167 0 0 [vA (some a), vA r0, vI x1, vI x2, vJ, vJ, vJ, vJ] [] h (zret 252 0 75 78 L S Q))) := wp_V1 (c := 110) rfl rfl (fun _ => rfl) rfl rfl (zcan_of rfl rfl) rfl rfl rfl
theorem s252_78 : WP 252 0 78 L (vI x :: S) h Q ↔ zif (x = 0) (WP 252 0 97 L S h Q) (WP 252 0 81 L S h Q) := wp_bE zc_eq rfl rfl rfl
theorem s252_81 : WP 252 0 81 [a0, a1, a2, a3, vI x, a5] S h Q ↔ WP 252 0 83 [a0, a1, a2, a3, vI x, a5] (vI x :: S) h Q := wp_iload rfl rfl
theorem s252_83 : WP 252 0 83 [a0, a1, vI x, a3, a4, a5] S h Q ↔ WP 252 0 84 [a0, a1, vI x, a3, a4, a5] (vI x :: S) h Q := wp_iload rfl rfl
theorem s252_84 : WP 252 0 84 L (vI y :: vI x :: S) h Q ↔ zif (x = y) (WP 252 0 87 L S h Q) (WP 252 0 94 L S h Q) := wp_bN zc_eq rfl rfl rfl
theorem s252_87 : WP 252 0 87 [vA r, a1, a2, a3, a4, a5] S h Q ↔ WP 252 0 88 [vA r, a1, a2, a3, a4, a5] (vA r :: S) h Q := wp_aload rfl rfl
theorem s252_88 : WP 252 0 88 L (vA (some a) :: S) h Q ↔ (zhas 62 (hk h a) = true ∧ WP 252 0 91 L (hm h a 62 :: S) h Q) := wp_if rfl rfl rfl
theorem s252_91 : WP 252 0 91 [a0, a1, a2, vI x, a4, a5] S h Q ↔ WP 252 0 92 [a0, a1, a2, vI x, a4, a5] (vI x :: S) h Q := wp_iload rfl rfl
theorem s252_92 : WP 252 0 92 L (vI x :: vA (some a) :: S) h Q ↔ (((hk h a).1 = 1 ∧ 0 ≤ x ∧ x < ((hk h a).2 : Int)) ∧ WP 252 0 93 L (hm h a x.toNat :: S) h Q) := wp_if rfl rfl rfl
theorem s252_93 : WP 252 0 93 L [vI x] h Q ↔ Q (.inl (some (vI x))) h := wp_iret0 rfl rfl
theorem s252_94 : WP 252 0 94 [a0, a1, a2, a3, vI x, a5] S h Q ↔ WP 252 0 97 [a0, a1, a2, a3, vI (wr (x + 1)), a5] S h Q := wp_iinc rfl rfl rfl
theorem s252_97 : WP 252 0 97 [vA r, a1, a2, a3, a4, a5] S h Q ↔ WP 252 0 98 [vA r, a1, a2, a3, a4, a5] (vA r :: S) h Q := wp_aload rfl rfl
theorem s252_98 : WP 252 0 98 [a0, vI x, a2, a3, a4, a5] S h Q ↔ WP 252 0 99 [a0, vI x, a2, a3, a4, a5] (vI x :: S) h Q := wp_iload rfl rfl
theorem s252_99 : WP 252 0 99 [vA r, a1, a2, a3, a4, a5] S h Q ↔ WP 252 0 100 [vA r, a1, a2, a3, a4, a5] (vA r :: S) h Q := wp_aload rfl rfl
theorem s252_100 : WP 252 0 100 L (vA (some a) :: S) h Q ↔ (zhas 59 (hk h a) = true ∧ WP 252 0 103 L (hm h a 59 :: S) h Q) := wp_if rfl rfl rfl
theorem s252_103 : WP 252 0 103 L (vI x1 :: vI x0 :: vA (some a) :: S) h Q ↔ ((hk h a).1 = 110 ∧ (zw S ≤ 8 ∧ WP 221 0 0 [vA (some a), vI x0, vI x1, vJ] [] h (zret 252 0 103 106 L S Q))) := wp_V1 (c := 110) rfl rfl (fun _ => rfl) rfl rfl (zcan_of rfl rfl) rfl rfl rfl
theorem s252_106 : WP 252 0 106 [a0, a1, a2, a3, a4, a5] (vI x :: S) h Q ↔ WP 252 0 108 [a0, a1, a2, a3, a4, vI x] S h Q := wp_istore rfl rfl rfl
theorem s252_108 : WP 252 0 108 L S h Q ↔ WP 252 0 51 L S h Q := wp_pl rfl rfl rfl
theorem s252_111 : WP 252 0 111 [a0, a1, vI x, a3, a4, a5] S h Q ↔ WP 252 0 112 [a0, a1, vI x, a3, a4, a5] (vI x :: S) h Q := wp_iload rfl rfl
theorem s252_112 : WP 252 0 112 L S h Q ↔ WP 252 0 113 L (vI (-1) :: S) h Q := wp_pl rfl rfl rfl
theorem s252_113 : WP 252 0 113 L (vI y :: vI x :: S) h Q ↔ zif (x = y) (WP 252 0 116 L S h Q) (WP 252 0 121 L S h Q) := wp_bN zc_eq rfl rfl rfl
theorem s252_116 : WP 252 0 116 [a0, a1, a2, a3, vI x, a5] S h Q ↔ WP 252 0 118 [a0, a1, a2, a3, vI x, a5] (vI x :: S) h Q := wp_iload rfl rfl
theorem s252_118 : WP 252 0 118 L S h Q ↔ WP 252 0 122 L S h Q := wp_pl rfl rfl rfl
theorem s252_121 : WP 252 0 121 L S h Q ↔ WP 252 0 122 L (vI (-1) :: S) h Q := wp_pl rfl rfl rfl
theorem s252_122 : WP 252 0 122 L [vI x] h Q ↔ Q (.inl (some (vI x))) h := wp_iret0 rfl rfl
/-! RepeatFreeModel.word()I -/
theorem s253_0 : WP 253 0 0 [vA r, a1] S h Q ↔ WP 253 0 1 [vA r, a1] (vA r :: S) h Q := wp_aload rfl rfl
theorem s253_1 : WP 253 0 1 L S h Q ↔ WP 253 0 2 L (vI 0 :: S) h Q := wp_pl rfl rfl rfl
theorem s253_2 : WP 253 0 2 L (vI x :: vA (some a) :: S) h Q ↔ ((zNC ≤ a ∧ zhas 45 (hk h a) = true) ∧ WP 253 0 5 L S (hput h a 45 (vI x)) Q) := wp_put0 rfl rfl
theorem s253_5 : WP 253 0 5 [vA r, a1] S h Q ↔ WP 253 0 6 [vA r, a1] (vA r :: S) h Q := wp_aload rfl rfl
theorem s253_6 : WP 253 0 6 L (vA (some a) :: S) h Q ↔ ((hk h a).1 = 110 ∧ (zw S ≤ 8 ∧ WP 144 0 0 [vA (some a)] [] h (zret 253 0 6 9 L S Q))) := wp_V1 (c := 110) rfl rfl (fun _ => rfl) rfl rfl (zcan_of rfl rfl) rfl rfl rfl
theorem s253_9 : WP 253 0 9 [vA r, a1] S h Q ↔ WP 253 0 10 [vA r, a1] (vA r :: S) h Q := wp_aload rfl rfl
theorem s253_10 : WP 253 0 10 L (vA (some a) :: S) h Q ↔ ((hk h a).1 = 110 ∧ (zw S ≤ 8 ∧ WP 145 0 0 [vA (some a)] [] h (zret 253 0 10 13 L S Q))) := wp_V1 (c := 110) rfl rfl (fun _ => rfl) rfl rfl (zcan_of rfl rfl) rfl rfl rfl
theorem s253_13 : WP 253 0 13 L S h Q ↔ WP 253 0 14 L (vI 0 :: S) h Q := wp_pl rfl rfl rfl
theorem s253_14 : WP 253 0 14 [a0, a1] (vI x :: S) h Q ↔ WP 253 0 15 [a0, vI x] S h Q := wp_istore rfl rfl rfl
theorem s253_15 : WP 253 0 15 [vA r, a1] S h Q ↔ WP 253 0 16 [vA r, a1] (vA r :: S) h Q := wp_aload rfl rfl
theorem s253_16 : WP 253 0 16 L S h Q ↔ WP 253 0 18 L (vI 97 :: S) h Q := wp_pl rfl rfl rfl
theorem s253_18 : WP 253 0 18 L S h Q ↔ WP 253 0 20 L (vI 97 :: S) h Q := wp_pl rfl rfl rfl
theorem s253_20 : WP 253 0 20 [vA r, a1] S h Q ↔ WP 253 0 21 [vA r, a1] (vA r :: S) h Q := wp_aload rfl rfl
theorem s253_21 : WP 253 0 21 L (vA (some a) :: S) h Q ↔ (zhas 54 (hk h a) = true ∧ WP 253 0 24 L (hm h a 54 :: S) h Q) := wp_if rfl rfl rfl
theorem s253_24 : WP 253 0 24 L S h Q ↔ WP 253 0 25 L (vI 0 :: S) h Q := wp_pl rfl rfl rfl
theorem s253_25 : WP 253 0 25 L (vI x :: vA (some a) :: S) h Q ↔ (((hk h a).1 = 1 ∧ 0 ≤ x ∧ x < ((hk h a).2 : Int)) ∧ WP 253 0 26 L (hm h a x.toNat :: S) h Q) := wp_if rfl rfl rfl
theorem s253_26 : WP 253 0 26 L (vI y :: vI x :: S) h Q ↔ WP 253 0 27 L (vI (wr (x + y)) :: S) h Q := wp_pl rfl rfl rfl
theorem s253_27 : WP 253 0 27 L S h Q ↔ WP 253 0 28 L (vI 1 :: S) h Q := wp_pl rfl rfl rfl
theorem s253_28 : WP 253 0 28 L (vI y :: vI x :: S) h Q ↔ WP 253 0 29 L (vI (wr (x - y)) :: S) h Q := wp_pl rfl rfl rfl
theorem s253_29 : WP 253 0 29 L (vI x1 :: vI x0 :: vA (some a) :: S) h Q ↔ ((hk h a).1 = 110 ∧ (zw S ≤ 8 ∧ WP 186 0 0 [vA (some a), vI x0, vI x1] [] h (zret 253 0 29 32 L S Q))) := wp_V1 (c := 110) rfl rfl (fun _ => rfl) rfl rfl (zcan_of rfl rfl) rfl rfl rfl
theorem s253_32 : WP 253 0 32 L (vI x :: S) h Q ↔ zif (x = 0) (WP 253 0 75 L S h Q) (WP 253 0 35 L S h Q) := wp_bE zc_eq rfl rfl rfl
theorem s253_35 : WP 253 0 35 [a0, vI x] S h Q ↔ WP 253 0 36 [a0, vI x] (vI x :: S) h Q := wp_iload rfl rfl
theorem s253_36 : WP 253 0 36 L S h Q ↔ WP 253 0 38 L (vI 64 :: S) h Q := wp_pl rfl rfl rfl
theorem s253_38 : WP 253 0 38 L (vI y :: vI x :: S) h Q ↔ zif (x < y) (WP 253 0 41 L S h Q) (WP 253 0 75 L S h Q) := wp_bN zc_lt rfl rfl rfl
theorem s253_41 : WP 253 0 41 [vA r, a1] S h Q ↔ WP 253 0 42 [vA r, a1] (vA r :: S) h Q := wp_aload rfl rfl
theorem s253_42 : WP 253 0 42 L (vA (some a) :: S) h Q ↔ (zhas 58 (hk h a) = true ∧ WP 253 0 45 L (hm h a 58 :: S) h Q) := wp_if rfl rfl rfl
theorem s253_45 : WP 253 0 45 [a0, vI x] S h Q ↔ WP 253 0 46 [a0, vI x] (vI x :: S) h Q := wp_iload rfl rfl
theorem s253_46 : WP 253 0 46 [vA r, a1] S h Q ↔ WP 253 0 47 [vA r, a1] (vA r :: S) h Q := wp_aload rfl rfl
theorem s253_47 : WP 253 0 47 L (vA (some a) :: S) h Q ↔ (zhas 46 (hk h a) = true ∧ WP 253 0 50 L (hm h a 46 :: S) h Q) := wp_if rfl rfl rfl
theorem s253_50 : WP 253 0 50 [vA r, a1] S h Q ↔ WP 253 0 51 [vA r, a1] (vA r :: S) h Q := wp_aload rfl rfl
theorem s253_51 : WP 253 0 51 L (vA (some a) :: S) h Q ↔ (zhas 49 (hk h a) = true ∧ WP 253 0 54 L (hm h a 49 :: S) h Q) := wp_if rfl rfl rfl
theorem s253_54 : WP 253 0 54 L (vI x :: vA (some a) :: S) h Q ↔ ((((hk h a).1 = 2 ∨ (hk h a).1 = 3) ∧ 0 ≤ x ∧ x < ((hk h a).2 : Int)) ∧ WP 253 0 55 L (hm h a x.toNat :: S) h Q) := wp_if rfl rfl rfl
theorem s253_55 : WP 253 0 55 L S h Q ↔ WP 253 0 57 L (vI 97 :: S) h Q := wp_pl rfl rfl rfl
theorem s253_57 : WP 253 0 57 L (vI y :: vI x :: S) h Q ↔ WP 253 0 58 L (vI (wr (x - y)) :: S) h Q := wp_pl rfl rfl rfl
theorem s253_58 : WP 253 0 58 L (vI y :: vI x :: vA (some a) :: S) h Q ↔ (((hk h a).1 = 1 ∧ (0 ≤ x ∧ x < ((hk h a).2 : Int)) ∧ zNC ≤ a) ∧ WP 253 0 59 L S (hput h a x.toNat (vI y)) Q) := wp_if rfl rfl rfl
theorem s253_59 : WP 253 0 59 [a0, vI x] S h Q ↔ WP 253 0 62 [a0, vI (wr (x + 1))] S h Q := wp_iinc rfl rfl rfl
theorem s253_62 : WP 253 0 62 [vA r, a1] S h Q ↔ WP 253 0 63 [vA r, a1] (vA r :: S) h Q := wp_aload rfl rfl
theorem s253_63 : WP 253 0 63 L (vA r :: S) h Q ↔ WP 253 0 64 L (vA r :: vA r :: S) h Q := wp_pl rfl rfl rfl
theorem s253_63i : WP 253 0 63 L (vI x :: S) h Q ↔ WP 253 0 64 L (vI x :: vI x :: S) h Q := wp_pl rfl rfl rfl
theorem s253_64 : WP 253 0 64 L (vA (some a) :: S) h Q ↔ (zhas 49 (hk h a) = true ∧ WP 253 0 67 L (hm h a 49 :: S) h Q) := wp_if rfl rfl rfl
theorem s253_67 : WP 253 0 67 L S h Q ↔ WP 253 0 68 L (vI 1 :: S) h Q := wp_pl rfl rfl rfl
theorem s253_68 : WP 253 0 68 L (vI y :: vI x :: S) h Q ↔ WP 253 0 69 L (vI (wr (x + y)) :: S) h Q := wp_pl rfl rfl rfl
theorem s253_69 : WP 253 0 69 L (vI x :: vA (some a) :: S) h Q ↔ ((zNC ≤ a ∧ zhas 49 (hk h a) = true) ∧ WP 253 0 72 L S (hput h a 49 (vI x)) Q) := wp_put0 rfl rfl
theorem s253_72 : WP 253 0 72 L S h Q ↔ WP 253 0 15 L S h Q := wp_pl rfl rfl rfl
theorem s253_75 : WP 253 0 75 [vA r, a1] S h Q ↔ WP 253 0 76 [vA r, a1] (vA r :: S) h Q := wp_aload rfl rfl
theorem s253_76 : WP 253 0 76 L (vA (some a) :: S) h Q ↔ ((hk h a).1 = 110 ∧ (zw S ≤ 8 ∧ WP 145 0 0 [vA (some a)] [] h (zret 253 0 76 79 L S Q))) := wp_V1 (c := 110) rfl rfl (fun _ => rfl) rfl rfl (zcan_of rfl rfl) rfl rfl rfl
theorem s253_79 : WP 253 0 79 [vA r, a1] S h Q ↔ WP 253 0 80 [vA r, a1] (vA r :: S) h Q := wp_aload rfl rfl
theorem s253_80 : WP 253 0 80 L (vA (some a) :: S) h Q ↔ (zhas 49 (hk h a) = true ∧ WP 253 0 83 L (hm h a 49 :: S) h Q) := wp_if rfl rfl rfl
theorem s253_83 : WP 253 0 83 [vA r, a1] S h Q ↔ WP 253 0 84 [vA r, a1] (vA r :: S) h Q := wp_aload rfl rfl
theorem s253_84 : WP 253 0 84 L (vA (some a) :: S) h Q ↔ (zhas 51 (hk h a) = true ∧ WP 253 0 87 L (hm h a 51 :: S) h Q) := wp_if rfl rfl rfl
theorem s253_87 : WP 253 0 87 L (vI y :: vI x :: S) h Q ↔ zif (x < y) (WP 253 0 90 L S h Q) (WP 253 0 94 L S h Q) := wp_bN zc_lt rfl rfl rfl
theorem s253_90 : WP 253 0 90 [vA r, a1] S h Q ↔ WP 253 0 91 [vA r, a1] (vA r :: S) h Q := wp_aload rfl rfl
theorem s253_91 : WP 253 0 91 L (vA (some a) :: S) h Q ↔ ((hk h a).1 = 110 ∧ (zw S ≤ 8 ∧ WP 161 0 0 [vA (some a)] [] h (zret 253 0 91 94 L S Q))) := wp_V1 (c := 110) rfl rfl (fun _ => rfl) rfl rfl (zcan_of rfl rfl) rfl rfl rfl
theorem s253_94 : WP 253 0 94 [vA r, a1] S h Q ↔ WP 253 0 95 [vA r, a1] (vA r :: S) h Q := wp_aload rfl rfl
theorem s253_95 : WP 253 0 95 [vA r, a1] S h Q ↔ WP 253 0 96 [vA r, a1] (vA r :: S) h Q := wp_aload rfl rfl
theorem s253_96 : WP 253 0 96 L (vA (some a) :: S) h Q ↔ (zhas 52 (hk h a) = true ∧ WP 253 0 99 L (hm h a 52 :: S) h Q) := wp_if rfl rfl rfl
theorem s253_99 : WP 253 0 99 L (vI x :: vA (some a) :: S) h Q ↔ ((zNC ≤ a ∧ zhas 53 (hk h a) = true) ∧ WP 253 0 102 L S (hput h a 53 (vI x)) Q) := wp_put0 rfl rfl
theorem s253_102 : WP 253 0 102 [vA r, a1] S h Q ↔ WP 253 0 103 [vA r, a1] (vA r :: S) h Q := wp_aload rfl rfl
theorem s253_103 : WP 253 0 103 [vA r, a1] S h Q ↔ WP 253 0 104 [vA r, a1] (vA r :: S) h Q := wp_aload rfl rfl
theorem s253_104 : WP 253 0 104 L (vA (some a) :: S) h Q ↔ ((hk h a).1 = 110 ∧ (zw S ≤ 8 ∧ WP 177 0 0 [vA (some a)] [] h (zret 253 0 104 107 L S Q))) := wp_V1 (c := 110) rfl rfl (fun _ => rfl) rfl rfl (zcan_of rfl rfl) rfl rfl rfl
theorem s253_107 : WP 253 0 107 L S h Q ↔ WP 253 0 108 L (vI 1 :: S) h Q := wp_pl rfl rfl rfl
theorem s253_108 : WP 253 0 108 L (vI x1 :: vI x0 :: vA (some a) :: S) h Q ↔ ((hk h a).1 = 110 ∧ (zw S ≤ 8 ∧ WP 248 0 0 [vA (some a), vI x0, vI x1] [] h (zret 253 0 108 111 L S Q))) := wp_V1 (c := 110) rfl rfl (fun _ => rfl) rfl rfl (zcan_of rfl rfl) rfl rfl rfl
theorem s253_111 : WP 253 0 111 L (vI x :: S) h Q ↔ zif (x = 0) (WP 253 0 116 L S h Q) (WP 253 0 114 L S h Q) := wp_bE zc_eq rfl rfl rfl
theorem s253_114 : WP 253 0 114 L S h Q ↔ WP 253 0 115 L (vI 0 :: S) h Q := wp_pl rfl rfl rfl
theorem s253_115 : WP 253 0 115 L [vI x] h Q ↔ Q (.inl (some (vI x))) h := wp_iret0 rfl rfl
theorem s253_116 : WP 253 0 116 [vA r, a1] S h Q ↔ WP 253 0 117 [vA r, a1] (vA r :: S) h Q := wp_aload rfl rfl
theorem s253_117 : WP 253 0 117 [a0, vI x] S h Q ↔ WP 253 0 118 [a0, vI x] (vI x :: S) h Q := wp_iload rfl rfl
theorem s253_118 : WP 253 0 118 L (vI x0 :: vA (some a) :: S) h Q ↔ ((hk h a).1 = 110 ∧ (zw S ≤ 8 ∧ WP 142 0 0 [vA (some a), vI x0, vJ] [] h (zret 253 0 118 121 L S Q))) := wp_V1 (c := 110) rfl rfl (fun _ => rfl) rfl rfl (zcan_of rfl rfl) rfl rfl rfl
theorem s253_121 : WP 253 0 121 [vA r, a1] S h Q ↔ WP 253 0 122 [vA r, a1] (vA r :: S) h Q := wp_aload rfl rfl
theorem s253_122 : WP 253 0 122 L (vA (some a) :: S) h Q ↔ (zhas 59 (hk h a) = true ∧ WP 253 0 125 L (hm h a 59 :: S) h Q) := wp_if rfl rfl rfl
theorem s253_125 : WP 253 0 125 L [vI x] h Q ↔ Q (.inl (some (vI x))) h := wp_iret0 rfl rfl
/-! RepeatFreeModel.wordMany()I -/
theorem s254_0 : WP 254 0 0 [vA r, a1] S h Q ↔ WP 254 0 1 [vA r, a1] (vA r :: S) h Q := wp_aload rfl rfl
theorem s254_1 : WP 254 0 1 L (vA (some a) :: S) h Q ↔ ((hk h a).1 = 110 ∧ (zw S ≤ 8 ∧ WP 145 0 0 [vA (some a)] [] h (zret 254 0 1 4 L S Q))) := wp_V1 (c := 110) rfl rfl (fun _ => rfl) rfl rfl (zcan_of rfl rfl) rfl rfl rfl
theorem s254_4 : WP 254 0 4 [vA r, a1] S h Q ↔ WP 254 0 5 [vA r, a1] (vA r :: S) h Q := wp_aload rfl rfl
theorem s254_5 : WP 254 0 5 L (vA (some a) :: S) h Q ↔ (zhas 49 (hk h a) = true ∧ WP 254 0 8 L (hm h a 49 :: S) h Q) := wp_if rfl rfl rfl
theorem s254_8 : WP 254 0 8 [a0, a1] (vI x :: S) h Q ↔ WP 254 0 9 [a0, vI x] S h Q := wp_istore rfl rfl rfl
theorem s254_9 : WP 254 0 9 [a0, vI x] S h Q ↔ WP 254 0 10 [a0, vI x] (vI x :: S) h Q := wp_iload rfl rfl
theorem s254_10 : WP 254 0 10 [vA r, a1] S h Q ↔ WP 254 0 11 [vA r, a1] (vA r :: S) h Q := wp_aload rfl rfl
theorem s254_11 : WP 254 0 11 L (vA (some a) :: S) h Q ↔ (zhas 51 (hk h a) = true ∧ WP 254 0 14 L (hm h a 51 :: S) h Q) := wp_if rfl rfl rfl
theorem s254_14 : WP 254 0 14 L (vI y :: vI x :: S) h Q ↔ zif (x < y) (WP 254 0 17 L S h Q) (WP 254 0 45 L S h Q) := wp_bN zc_lt rfl rfl rfl
theorem s254_17 : WP 254 0 17 [vA r, a1] S h Q ↔ WP 254 0 18 [vA r, a1] (vA r :: S) h Q := wp_aload rfl rfl
theorem s254_18 : WP 254 0 18 L (vA (some a) :: S) h Q ↔ (zhas 46 (hk h a) = true ∧ WP 254 0 21 L (hm h a 46 :: S) h Q) := wp_if rfl rfl rfl
theorem s254_21 : WP 254 0 21 [a0, vI x] S h Q ↔ WP 254 0 22 [a0, vI x] (vI x :: S) h Q := wp_iload rfl rfl
theorem s254_22 : WP 254 0 22 L (vI x :: vA (some a) :: S) h Q ↔ ((((hk h a).1 = 2 ∨ (hk h a).1 = 3) ∧ 0 ≤ x ∧ x < ((hk h a).2 : Int)) ∧ WP 254 0 23 L (hm h a x.toNat :: S) h Q) := wp_if rfl rfl rfl
theorem s254_23 : WP 254 0 23 L S h Q ↔ WP 254 0 25 L (vI 97 :: S) h Q := wp_pl rfl rfl rfl
theorem s254_25 : WP 254 0 25 L (vI y :: vI x :: S) h Q ↔ zif (x < y) (WP 254 0 45 L S h Q) (WP 254 0 28 L S h Q) := wp_bE zc_lt rfl rfl rfl
theorem s254_28 : WP 254 0 28 [vA r, a1] S h Q ↔ WP 254 0 29 [vA r, a1] (vA r :: S) h Q := wp_aload rfl rfl
theorem s254_29 : WP 254 0 29 L (vA (some a) :: S) h Q ↔ (zhas 46 (hk h a) = true ∧ WP 254 0 32 L (hm h a 46 :: S) h Q) := wp_if rfl rfl rfl
theorem s254_32 : WP 254 0 32 [a0, vI x] S h Q ↔ WP 254 0 33 [a0, vI x] (vI x :: S) h Q := wp_iload rfl rfl
theorem s254_33 : WP 254 0 33 L (vI x :: vA (some a) :: S) h Q ↔ ((((hk h a).1 = 2 ∨ (hk h a).1 = 3) ∧ 0 ≤ x ∧ x < ((hk h a).2 : Int)) ∧ WP 254 0 34 L (hm h a x.toNat :: S) h Q) := wp_if rfl rfl rfl
theorem s254_34 : WP 254 0 34 L S h Q ↔ WP 254 0 36 L (vI 122 :: S) h Q := wp_pl rfl rfl rfl
theorem s254_36 : WP 254 0 36 L (vI y :: vI x :: S) h Q ↔ zif (y < x) (WP 254 0 45 L S h Q) (WP 254 0 39 L S h Q) := wp_bE zc_gt rfl rfl rfl
theorem s254_39 : WP 254 0 39 [a0, vI x] S h Q ↔ WP 254 0 42 [a0, vI (wr (x + 1))] S h Q := wp_iinc rfl rfl rfl
theorem s254_42 : WP 254 0 42 L S h Q ↔ WP 254 0 9 L S h Q := wp_pl rfl rfl rfl
theorem s254_45 : WP 254 0 45 [a0, vI x] S h Q ↔ WP 254 0 46 [a0, vI x] (vI x :: S) h Q := wp_iload rfl rfl
theorem s254_46 : WP 254 0 46 [vA r, a1] S h Q ↔ WP 254 0 47 [vA r, a1] (vA r :: S) h Q := wp_aload rfl rfl
theorem s254_47 : WP 254 0 47 L (vA (some a) :: S) h Q ↔ (zhas 49 (hk h a) = true ∧ WP 254 0 50 L (hm h a 49 :: S) h Q) := wp_if rfl rfl rfl
theorem s254_50 : WP 254 0 50 L (vI y :: vI x :: S) h Q ↔ WP 254 0 51 L (vI (wr (x - y)) :: S) h Q := wp_pl rfl rfl rfl
theorem s254_51 : WP 254 0 51 L [vI x] h Q ↔ Q (.inl (some (vI x))) h := wp_iret0 rfl rfl
end
