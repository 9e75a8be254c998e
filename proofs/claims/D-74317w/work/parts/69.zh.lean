/-! Which fields the objects of each sort have; small laws of words. -/
theorem zh_1_100 : zhas 1 (100, 0) = true := rfl
theorem zh_2_100 : zhas 2 (100, 0) = true := rfl
theorem zh_3_100 : zhas 3 (100, 0) = true := rfl
theorem zh_4_100 : zhas 4 (100, 0) = true := rfl
theorem zh_5_100 : zhas 5 (100, 0) = true := rfl
theorem zh_6_100 : zhas 6 (100, 0) = true := rfl
theorem zh_7_100 : zhas 7 (100, 0) = true := rfl
theorem zh_8_100 : zhas 8 (100, 0) = true := rfl
theorem zh_9_100 : zhas 9 (100, 0) = true := rfl
theorem zh_10_101 : zhas 10 (101, 0) = true := rfl
theorem zh_11_101 : zhas 11 (101, 0) = true := rfl
theorem zh_12_101 : zhas 12 (101, 0) = true := rfl
theorem zh_13_101 : zhas 13 (101, 0) = true := rfl
theorem zh_14_102 : zhas 14 (102, 0) = true := rfl
theorem zh_15_102 : zhas 15 (102, 0) = true := rfl
theorem zh_16_103 : zhas 16 (103, 0) = true := rfl
theorem zh_17_103 : zhas 17 (103, 0) = true := rfl
theorem zh_18_103 : zhas 18 (103, 0) = true := rfl
theorem zh_19_104 : zhas 19 (104, 0) = true := rfl
theorem zh_20_104 : zhas 20 (104, 0) = true := rfl
theorem zh_19_105 : zhas 19 (105, 0) = true := rfl
theorem zh_21_105 : zhas 21 (105, 0) = true := rfl
theorem zh_22_105 : zhas 22 (105, 0) = true := rfl
theorem zh_23_105 : zhas 23 (105, 0) = true := rfl
theorem zh_24_105 : zhas 24 (105, 0) = true := rfl
theorem zh_25_105 : zhas 25 (105, 0) = true := rfl
theorem zh_26_106 : zhas 26 (106, 0) = true := rfl
theorem zh_27_106 : zhas 27 (106, 0) = true := rfl
theorem zh_28_106 : zhas 28 (106, 0) = true := rfl
theorem zh_29_106 : zhas 29 (106, 0) = true := rfl
theorem zh_30_107 : zhas 30 (107, 0) = true := rfl
theorem zh_31_107 : zhas 31 (107, 0) = true := rfl
theorem zh_32_107 : zhas 32 (107, 0) = true := rfl
theorem zh_33_108 : zhas 33 (108, 0) = true := rfl
theorem zh_34_108 : zhas 34 (108, 0) = true := rfl
theorem zh_35_108 : zhas 35 (108, 0) = true := rfl
theorem zh_36_108 : zhas 36 (108, 0) = true := rfl
theorem zh_37_108 : zhas 37 (108, 0) = true := rfl
theorem zh_38_109 : zhas 38 (109, 0) = true := rfl
theorem zh_39_109 : zhas 39 (109, 0) = true := rfl
theorem zh_40_109 : zhas 40 (109, 0) = true := rfl
theorem zh_41_109 : zhas 41 (109, 0) = true := rfl
theorem zh_42_109 : zhas 42 (109, 0) = true := rfl
theorem zh_43_109 : zhas 43 (109, 0) = true := rfl
theorem zh_44_109 : zhas 44 (109, 0) = true := rfl
theorem zh_77_111 : zhas 77 (111, 0) = true := rfl
theorem zh_78_111 : zhas 78 (111, 0) = true := rfl
theorem zh_79_111 : zhas 79 (111, 0) = true := rfl
theorem zh_80_111 : zhas 80 (111, 0) = true := rfl
theorem zh_81_112 : zhas 81 (112, 0) = true := rfl
theorem zh_82_112 : zhas 82 (112, 0) = true := rfl
theorem zh_83_112 : zhas 83 (112, 0) = true := rfl
theorem zh_84_113 : zhas 84 (113, 0) = true := rfl
theorem zh_85_113 : zhas 85 (113, 0) = true := rfl
theorem zh_86_113 : zhas 86 (113, 0) = true := rfl
theorem zh_87_113 : zhas 87 (113, 0) = true := rfl
theorem zh_88_113 : zhas 88 (113, 0) = true := rfl
theorem zh_89_114 : zhas 89 (114, 0) = true := rfl
theorem zh_90_114 : zhas 90 (114, 0) = true := rfl
theorem zh_91_114 : zhas 91 (114, 0) = true := rfl
theorem zh_92_115 : zhas 92 (115, 0) = true := rfl
theorem zh_93_115 : zhas 93 (115, 0) = true := rfl
theorem zh_94_115 : zhas 94 (115, 0) = true := rfl
theorem zh_95_116 : zhas 95 (116, 0) = true := rfl
theorem zh_96_116 : zhas 96 (116, 0) = true := rfl
theorem zh_97_116 : zhas 97 (116, 0) = true := rfl
theorem zh_98_116 : zhas 98 (116, 0) = true := rfl
theorem zh_99_117 : zhas 99 (117, 0) = true := rfl
theorem zh_100_117 : zhas 100 (117, 0) = true := rfl
theorem zh_101_117 : zhas 101 (117, 0) = true := rfl
theorem zh_102_117 : zhas 102 (117, 0) = true := rfl
theorem zh_103_118 : zhas 103 (118, 0) = true := rfl
theorem zh_104_119 : zhas 104 (119, 0) = true := rfl
theorem zh_105_119 : zhas 105 (119, 0) = true := rfl
theorem zshr_0 {x : Int} (h : -2147483648 ≤ x ∧ x ≤ 2147483647) : zshr x 0 = x := by
  unfold zshr
  have : (Int32.ofInt 0 &&& 31) = 0 := rfl
  rw [this]
  have e : Int32.ofInt x >>> (0 : Int32) = Int32.ofInt x := by simp
  rw [e]
  exact Int32.toInt_ofInt_of_le h.1 (by omega)
