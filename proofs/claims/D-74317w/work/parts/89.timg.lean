/-! Walks through the reference, 15: images. -/
def mL (t : Nat → Int) (m l : Int) : Int := t (54 + 4 * m + l).toNat
def mI (t : Nat → Int) (m l k : Int) : Int := t (70 + 6 * (4 * m + l) + k).toNat
def addI (t : Nat → Int) (m x : Int) : Nat → List Int → List Int
  | 0, a => a
  | i + 1, a => mI t m x i :: addI t m x i a
def rimg (t : Nat → Int) (m : Int) : List Int → List Int
  | [] => []
  | x :: s => addI t m x (mL t m x).toNat (rimg t m s)
def toS (w : Nat → Int) : Nat → List Int
  | 0 => []
  | n + 1 => w n :: toS w n
theorem addI_len (t : Nat → Int) (m x : Int) (i : Nat) (a : List Int) : (addI t m x i a).length = i + a.length := by
  induction i with
  | zero => show a.length = 0 + a.length; omega
  | succ i ih => show (addI t m x i a).length + 1 = _; omega
theorem toS_len (w : Nat → Int) (n : Nat) : (toS w n).length = n := by
  induction n with
  | zero => rfl
  | succ n ih => show (toS w n).length + 1 = _; omega
theorem toS_Rw (w : Nat → Int) : ∀ n : Nat, Rw w (toS w n)
  | 0 => fun i hi => by have e : ((toS w 0).length : Int) = 0 := rfl; rw [e] at hi; omega
  | n + 1 => fun i hi => by
    have e := toS_len w (n + 1)
    have e2 := toS_len w n
    by_cases c : i = n
    · show w i = uf (fnR (toS w n)) (toS w n).length (w n) i
      rw [e2, c, uf_s]
    · show w i = uf (fnR (toS w n)) (toS w n).length (w n) i
      rw [e2, uf_n c]
      exact toS_Rw w n i (by rw [toS_len]; omega)
theorem Rw_toS {w : Nat → Int} : ∀ {s : List Int}, Rw w s → toS w s.length = s
  | [], _ => rfl
  | x :: s, h => by
    show w s.length :: toS w s.length = _
    rw [h.tl.2, Rw_toS h.tl.1]
theorem toS_c {w w' : Nat → Int} {n : Nat} (h : Al n w w') : toS w n = toS w' n := by
  induction n with
  | zero => rfl
  | succ n ih =>
    show w n :: toS w n = w' n :: toS w' n
    rw [h n (by omega), ih (h.le (by omega))]
theorem toS_let {w : Nat → Int} {L : Int} {n : Nat} (h : ∀ i : Nat, i < n → 0 ≤ w i ∧ w i < L) : sLet L (toS w n) := by
  induction n with
  | zero => exact fun e he => by cases he
  | succ n ih =>
    intro e he
    rcases List.mem_cons.mp he with rfl | he
    · exact h n (by omega)
    · exact ih (fun i hi => h i (by omega)) e he
theorem sLet.rwb {w : Nat → Int} {L : Int} : ∀ {s : List Int}, sLet L s → Rw w s → ∀ i : Nat, i < s.length → 0 ≤ w i ∧ w i < L
  | [], _, _ => fun i hi => by cases hi
  | x :: s, hl, h => fun i hi => by
    rw [List.length_cons] at hi
    by_cases c : i = s.length
    · rw [c, h.tl.2]; exact hl x (List.mem_cons_self ..)
    · exact sLet.rwb (fun e he => hl e (List.mem_cons_of_mem _ he)) h.tl.1 i (by omega)
theorem TI.mLb {t : Nat → Int} (T : TI t) {m l : Int} (h0 : 0 ≤ m) (h1 : m < t 4) (h2 : 0 ≤ l) (h3 : l < t 0) : 1 ≤ mL t m l ∧ mL t m l ≤ 6 := T.lo m l h0 h1 h2 h3
theorem TI.mIb {t : Nat → Int} (T : TI t) {m l k : Int} (h0 : 0 ≤ m) (h1 : m < t 4) (h2 : 0 ≤ l) (h3 : l < t 0) (h4 : 0 ≤ k) (h5 : k < mL t m l) : 0 ≤ mI t m l k ∧ mI t m l k < t 0 := T.im m l k h0 h1 h2 h3 h4 h5
theorem rimg_len {t : Nat → Int} (T : TI t) {m : Int} (h0 : 0 ≤ m) (h1 : m < t 4) : ∀ {s : List Int}, sLet (t 0) s → (s.length : Int) ≤ (rimg t m s).length ∧ ((rimg t m s).length : Int) ≤ 6 * s.length
  | [], _ => by show ((0 : Nat) : Int) ≤ (0 : Nat) ∧ ((0 : Nat) : Int) ≤ 6 * (0 : Nat); omega
  | x :: s, hl => by
    have := rimg_len T h0 h1 (s := s) (fun e he => hl e (List.mem_cons_of_mem _ he))
    have hx := hl x (List.mem_cons_self ..)
    have := T.mLb h0 h1 hx.1 hx.2
    show ((x :: s).length : Int) ≤ (addI t m x (mL t m x).toNat (rimg t m s)).length ∧ ((addI t m x (mL t m x).toNat (rimg t m s)).length : Int) ≤ 6 * (x :: s).length
    rw [addI_len, List.length_cons]
    omega
theorem addI_let {t : Nat → Int} (T : TI t) {m x : Int} (h0 : 0 ≤ m) (h1 : m < t 4) (h2 : 0 ≤ x) (h3 : x < t 0) {a : List Int} (ha : sLet (t 0) a) : ∀ i : Nat, (i : Int) ≤ mL t m x → sLet (t 0) (addI t m x i a)
  | 0, _ => ha
  | i + 1, hi => fun e he => by
    rcases List.mem_cons.mp he with rfl | he
    · exact T.mIb h0 h1 h2 h3 (by omega) (by omega)
    · exact addI_let T h0 h1 h2 h3 ha i (by omega) e he
theorem rimg_let {t : Nat → Int} (T : TI t) {m : Int} (h0 : 0 ≤ m) (h1 : m < t 4) : ∀ {s : List Int}, sLet (t 0) s → sLet (t 0) (rimg t m s)
  | [], _ => fun e he => by cases he
  | x :: s, hl => by
    have hx := hl x (List.mem_cons_self ..)
    have := T.mLb h0 h1 hx.1 hx.2
    exact addI_let T h0 h1 hx.1 hx.2 (rimg_let T h0 h1 (fun e he => hl e (List.mem_cons_of_mem _ he))) _ (by omega)
section
variable {b : MH} {f : Nat → Int} {g : Nat → Nat → Int} {Q : ZO → MH → Prop}
theorem t_longOf {m l : Int} (h0 : 0 ≤ m ∧ m ≤ 3) (h1 : 0 ≤ l ∧ l ≤ 3) : WP 210 0 0 [vA (some 69), vI m, vI l] [] (tw b f g) Q ↔ Q (.inl (some (vI (mL (g 3) m l)))) (tw b f g) := by
  simp (disch := first | omega | (simp (disch := omega) only [uf_s, uf_n, ug_s, ug_a, ug_i] <;> omega)) only [s210_0, s210_1, s210_4, s210_6, s210_7, s210_8, s210_9, s210_10, s210_11, s210_12, s210_13, tk_69, tk_70, tk_71, tk_72, tk_73, tk_74, tk_75, tk_76, tk_77, tk_78, tk_79, tk_80, tk_81, tk_82, tk_83, tk_84, tm_thrown, tm_taped, tm_point, tm_begin, tm_size, tm_faultAt, tm_fault, tm_hasLimit, tm_many, tm_acts, tm_tries, tm_foundMany, tm_isCut, tm_wanted, tm_mapNow, tm_isFound, tm_isNoCode, tm_tape, tm_five, tm_told, tm_draft, tm_word, tm_given, tm_past, tm_sizes, tm_begun, tm_row, tm_imaged, tm_counts, tm_sums, tm_hangs, tm_joined, ta_1, ta_2, ta_3, ta_4, ta_5, ta_6, ta_7, ta_8, ta_9, ta_10, ta_11, ta_12, ta_13, ta_14, ta_15, tp_thrown, tp_taped, tp_point, tp_begin, tp_size, tp_faultAt, tp_fault, tp_hasLimit, tp_many, tp_acts, tp_tries, tp_foundMany, tp_isCut, tp_wanted, tp_mapNow, tp_isFound, tp_isNoCode, tq_1, tq_2, tq_3, tq_4, tq_5, tq_6, tq_7, tq_8, tq_9, tq_10, tq_11, tq_12, tq_13, tq_14, tq_15, zh_45_110, zh_46_110, zh_47_110, zh_48_110, zh_49_110, zh_50_110, zh_51_110, zh_52_110, zh_53_110, zh_54_110, zh_55_110, zh_56_110, zh_57_110, zh_58_110, zh_59_110, zh_60_110, zh_61_110, zh_62_110, zh_63_110, zh_64_110, zh_65_110, zh_66_110, zh_67_110, zh_68_110, zh_69_110, zh_70_110, zh_71_110, zh_72_110, zh_73_110, zh_74_110, zh_75_110, zh_76_110, wr_id, wb_id, wc_id, wl_id, zif_true, zif_false, zret_n, zret_v, uf_s, uf_n, ug_s, ug_a, ug_i, uf_uf, uf_sw, uf_id, vI_inj, vA_inj, true_and, and_true, true_or, or_true, false_or, or_false, znc, Nat.reduceEqDiff, Nat.reduceLeDiff, Nat.reduceAdd, zw_n, zw_i, zw_l, zw_a, zb_01, zb_0, zb_n0, zif_not, Int.reduceEq, Int.reduceLE, Int.reduceLT, Int.reduceNeg, Int.reduceAdd, Int.reduceSub, Int.reduceMul, Int.reduceToNat, and_self, zshr_0]
  exact and_iff' (by omega) Iff.rfl
theorem t_imageOf {m l k : Int} (h0 : 0 ≤ m ∧ m ≤ 3) (h1 : 0 ≤ l ∧ l ≤ 3) (h2 : 0 ≤ k ∧ k ≤ 5) : WP 180 0 0 [vA (some 69), vI m, vI l, vI k] [] (tw b f g) Q ↔ Q (.inl (some (vI (mI (g 3) m l k)))) (tw b f g) := by
  simp (disch := first | omega | (simp (disch := omega) only [uf_s, uf_n, ug_s, ug_a, ug_i] <;> omega)) only [s180_0, s180_1, s180_4, s180_6, s180_8, s180_9, s180_10, s180_11, s180_12, s180_13, s180_14, s180_15, s180_16, s180_17, s180_18, tk_69, tk_70, tk_71, tk_72, tk_73, tk_74, tk_75, tk_76, tk_77, tk_78, tk_79, tk_80, tk_81, tk_82, tk_83, tk_84, tm_thrown, tm_taped, tm_point, tm_begin, tm_size, tm_faultAt, tm_fault, tm_hasLimit, tm_many, tm_acts, tm_tries, tm_foundMany, tm_isCut, tm_wanted, tm_mapNow, tm_isFound, tm_isNoCode, tm_tape, tm_five, tm_told, tm_draft, tm_word, tm_given, tm_past, tm_sizes, tm_begun, tm_row, tm_imaged, tm_counts, tm_sums, tm_hangs, tm_joined, ta_1, ta_2, ta_3, ta_4, ta_5, ta_6, ta_7, ta_8, ta_9, ta_10, ta_11, ta_12, ta_13, ta_14, ta_15, tp_thrown, tp_taped, tp_point, tp_begin, tp_size, tp_faultAt, tp_fault, tp_hasLimit, tp_many, tp_acts, tp_tries, tp_foundMany, tp_isCut, tp_wanted, tp_mapNow, tp_isFound, tp_isNoCode, tq_1, tq_2, tq_3, tq_4, tq_5, tq_6, tq_7, tq_8, tq_9, tq_10, tq_11, tq_12, tq_13, tq_14, tq_15, zh_45_110, zh_46_110, zh_47_110, zh_48_110, zh_49_110, zh_50_110, zh_51_110, zh_52_110, zh_53_110, zh_54_110, zh_55_110, zh_56_110, zh_57_110, zh_58_110, zh_59_110, zh_60_110, zh_61_110, zh_62_110, zh_63_110, zh_64_110, zh_65_110, zh_66_110, zh_67_110, zh_68_110, zh_69_110, zh_70_110, zh_71_110, zh_72_110, zh_73_110, zh_74_110, zh_75_110, zh_76_110, wr_id, wb_id, wc_id, wl_id, zif_true, zif_false, zret_n, zret_v, uf_s, uf_n, ug_s, ug_a, ug_i, uf_uf, uf_sw, uf_id, vI_inj, vA_inj, true_and, and_true, true_or, or_true, false_or, or_false, znc, Nat.reduceEqDiff, Nat.reduceLeDiff, Nat.reduceAdd, zw_n, zw_i, zw_l, zw_a, zb_01, zb_0, zb_n0, zif_not, Int.reduceEq, Int.reduceLE, Int.reduceLT, Int.reduceNeg, Int.reduceAdd, Int.reduceSub, Int.reduceMul, Int.reduceToNat, and_self, zshr_0]
  exact and_iff' (by omega) Iff.rfl
theorem t_img0 {r a N : Nat} (hr : rowOK r a N) (ha : a ≠ 11) (T : TI (g 3)) {m n : Int} (h0 : 0 ≤ m) (h1 : m < g 3 4) {k : Nat} (hk : (k : Int) < n) (hn : n ≤ 64) (hl : 0 ≤ g a k ∧ g a k < g 3 0) {s : List Int} (hs : (s.length : Int) ≤ 6 * k) (hQ : ∀ z, Rw z (rimg (g 3) m [] ++ addI (g 3) m (g a k) (mL (g 3) m (g a k)).toNat s) → ∀ u, WP 182 0 56 [vA (some 69), vA (some r), vI n, vI m, vI (addI (g 3) m (g a k) (mL (g 3) m (g a k)).toNat s).length, vI k, u] [] (tw b f (ga g 11 z)) Q) : ∀ (j : Nat) (i : Nat) (z : Nat → Int), (mL (g 3) m (g a k) - i).toNat < j → (i : Int) ≤ mL (g 3) m (g a k) → Rw z (addI (g 3) m (g a k) i s) → WP 182 0 15 [vA (some 69), vA (some r), vI n, vI m, vI (addI (g 3) m (g a k) i s).length, vI k, vI i] [] (tw b f (ga g 11 z)) Q := by
  obtain ⟨r1, r2, r3, r4, -⟩ := hr
  have p4 := T.mp
  have p0 := T.n
  have pl := T.mLb h0 h1 hl.1 hl.2
  intro j
  induction j with
  | zero => intro i z hj; omega
  | succ j ih =>
    intro i z hj hi hz
    have el := addI_len (g 3) m (g a k) i s
    have tl : ∀ z' Q, WP 210 0 0 [vA (some 69), vI m, vI (g a k)] [] (tw b f (ga g 11 z')) Q ↔ Q (.inl (some (vI (mL (g 3) m (g a k))))) (tw b f (ga g 11 z')) := fun z' Q => by
      have e := t_longOf (b := b) (f := f) (g := ga g 11 z') (Q := Q) (m := m) (l := g a k) (by omega) (by omega)
      rw [ga_n (by omega)] at e
      exact e
    rw [s182_15]
    simp (disch := first | omega | (simp (disch := omega) only [uf_s, uf_n, ug_s, ug_a, ug_i] <;> omega)) only [s182_17, s182_18, s182_19, s182_20, s182_22, s182_23, s182_26, tk_69, tk_70, tk_71, tk_72, tk_73, tk_74, tk_75, tk_76, tk_77, tk_78, tk_79, tk_80, tk_81, tk_82, tk_83, tk_84, tm_thrown, tm_taped, tm_point, tm_begin, tm_size, tm_faultAt, tm_fault, tm_hasLimit, tm_many, tm_acts, tm_tries, tm_foundMany, tm_isCut, tm_wanted, tm_mapNow, tm_isFound, tm_isNoCode, tm_tape, tm_five, tm_told, tm_draft, tm_word, tm_given, tm_past, tm_sizes, tm_begun, tm_row, tm_imaged, tm_counts, tm_sums, tm_hangs, tm_joined, ta_1, ta_2, ta_3, ta_4, ta_5, ta_6, ta_7, ta_8, ta_9, ta_10, ta_11, ta_12, ta_13, ta_14, ta_15, tp_thrown, tp_taped, tp_point, tp_begin, tp_size, tp_faultAt, tp_fault, tp_hasLimit, tp_many, tp_acts, tp_tries, tp_foundMany, tp_isCut, tp_wanted, tp_mapNow, tp_isFound, tp_isNoCode, tq_1, tq_2, tq_3, tq_4, tq_5, tq_6, tq_7, tq_8, tq_9, tq_10, tq_11, tq_12, tq_13, tq_14, tq_15, zh_45_110, zh_46_110, zh_47_110, zh_48_110, zh_49_110, zh_50_110, zh_51_110, zh_52_110, zh_53_110, zh_54_110, zh_55_110, zh_56_110, zh_57_110, zh_58_110, zh_59_110, zh_60_110, zh_61_110, zh_62_110, zh_63_110, zh_64_110, zh_65_110, zh_66_110, zh_67_110, zh_68_110, zh_69_110, zh_70_110, zh_71_110, zh_72_110, zh_73_110, zh_74_110, zh_75_110, zh_76_110, wr_id, wb_id, wc_id, wl_id, zif_true, zif_false, zret_n, zret_v, uf_s, uf_n, ug_s, ug_a, ug_i, uf_uf, uf_sw, uf_id, vI_inj, vA_inj, true_and, and_true, true_or, or_true, false_or, or_false, znc, Nat.reduceEqDiff, Nat.reduceLeDiff, Nat.reduceAdd, zw_n, zw_i, zw_l, zw_a, zb_01, zb_0, zb_n0, zif_not, Int.reduceEq, Int.reduceLE, Int.reduceLT, Int.reduceNeg, Int.reduceAdd, Int.reduceSub, Int.reduceMul, Int.reduceToNat, and_self, zshr_0, ug_ga, ga_s, ga_n, ga_ga, gs_2_1, gs_3_1, gs_3_2, gs_4_1, gs_4_2, gs_4_3, gs_5_1, gs_5_2, gs_5_3, gs_5_4, gs_6_1, gs_6_2, gs_6_3, gs_6_4, gs_6_5, gs_7_1, gs_7_2, gs_7_3, gs_7_4, gs_7_5, gs_7_6, gs_8_1, gs_8_2, gs_8_3, gs_8_4, gs_8_5, gs_8_6, gs_8_7, gs_9_1, gs_9_2, gs_9_3, gs_9_4, gs_9_5, gs_9_6, gs_9_7, gs_9_8, gs_10_1, gs_10_2, gs_10_3, gs_10_4, gs_10_5, gs_10_6, gs_10_7, gs_10_8, gs_10_9, gs_11_1, gs_11_2, gs_11_3, gs_11_4, gs_11_5, gs_11_6, gs_11_7, gs_11_8, gs_11_9, gs_11_10, gs_12_1, gs_12_2, gs_12_3, gs_12_4, gs_12_5, gs_12_6, gs_12_7, gs_12_8, gs_12_9, gs_12_10, gs_12_11, gs_13_1, gs_13_2, gs_13_3, gs_13_4, gs_13_5, gs_13_6, gs_13_7, gs_13_8, gs_13_9, gs_13_10, gs_13_11, gs_13_12, gs_14_1, gs_14_2, gs_14_3, gs_14_4, gs_14_5, gs_14_6, gs_14_7, gs_14_8, gs_14_9, gs_14_10, gs_14_11, gs_14_12, gs_14_13, gs_15_1, gs_15_2, gs_15_3, gs_15_4, gs_15_5, gs_15_6, gs_15_7, gs_15_8, gs_15_9, gs_15_10, gs_15_11, gs_15_12, gs_15_13, gs_15_14, r1, r2, Int.toNat_natCast, tl]
    refine And.intro (by omega) (zif_in (fun q => ?_) (fun q => ?_))
    · have ti : ∀ Q, WP 180 0 0 [vA (some 69), vI m, vI (g a k), vI i] [] (tw b f (ga g 11 z)) Q ↔ Q (.inl (some (vI (mI (g 3) m (g a k) i)))) (tw b f (ga g 11 z)) := fun Q => by
        have e := t_imageOf (b := b) (f := f) (g := ga g 11 z) (Q := Q) (m := m) (l := g a k) (k := i) (by omega) (by omega) (by omega)
        rw [ga_n (by omega)] at e
        exact e
      simp (disch := first | omega | (simp (disch := omega) only [uf_s, uf_n, ug_s, ug_a, ug_i] <;> omega)) only [s182_29, s182_30, s182_33, s182_35, s182_36, s182_37, s182_38, s182_40, s182_41, s182_43, s182_46, s182_47, s182_50, s182_53, tk_69, tk_70, tk_71, tk_72, tk_73, tk_74, tk_75, tk_76, tk_77, tk_78, tk_79, tk_80, tk_81, tk_82, tk_83, tk_84, tm_thrown, tm_taped, tm_point, tm_begin, tm_size, tm_faultAt, tm_fault, tm_hasLimit, tm_many, tm_acts, tm_tries, tm_foundMany, tm_isCut, tm_wanted, tm_mapNow, tm_isFound, tm_isNoCode, tm_tape, tm_five, tm_told, tm_draft, tm_word, tm_given, tm_past, tm_sizes, tm_begun, tm_row, tm_imaged, tm_counts, tm_sums, tm_hangs, tm_joined, ta_1, ta_2, ta_3, ta_4, ta_5, ta_6, ta_7, ta_8, ta_9, ta_10, ta_11, ta_12, ta_13, ta_14, ta_15, tp_thrown, tp_taped, tp_point, tp_begin, tp_size, tp_faultAt, tp_fault, tp_hasLimit, tp_many, tp_acts, tp_tries, tp_foundMany, tp_isCut, tp_wanted, tp_mapNow, tp_isFound, tp_isNoCode, tq_1, tq_2, tq_3, tq_4, tq_5, tq_6, tq_7, tq_8, tq_9, tq_10, tq_11, tq_12, tq_13, tq_14, tq_15, zh_45_110, zh_46_110, zh_47_110, zh_48_110, zh_49_110, zh_50_110, zh_51_110, zh_52_110, zh_53_110, zh_54_110, zh_55_110, zh_56_110, zh_57_110, zh_58_110, zh_59_110, zh_60_110, zh_61_110, zh_62_110, zh_63_110, zh_64_110, zh_65_110, zh_66_110, zh_67_110, zh_68_110, zh_69_110, zh_70_110, zh_71_110, zh_72_110, zh_73_110, zh_74_110, zh_75_110, zh_76_110, wr_id, wb_id, wc_id, wl_id, zif_true, zif_false, zret_n, zret_v, uf_s, uf_n, ug_s, ug_a, ug_i, uf_uf, uf_sw, uf_id, vI_inj, vA_inj, true_and, and_true, true_or, or_true, false_or, or_false, znc, Nat.reduceEqDiff, Nat.reduceLeDiff, Nat.reduceAdd, zw_n, zw_i, zw_l, zw_a, zb_01, zb_0, zb_n0, zif_not, Int.reduceEq, Int.reduceLE, Int.reduceLT, Int.reduceNeg, Int.reduceAdd, Int.reduceSub, Int.reduceMul, Int.reduceToNat, and_self, zshr_0, ug_ga, ga_s, ga_n, ga_ga, gs_2_1, gs_3_1, gs_3_2, gs_4_1, gs_4_2, gs_4_3, gs_5_1, gs_5_2, gs_5_3, gs_5_4, gs_6_1, gs_6_2, gs_6_3, gs_6_4, gs_6_5, gs_7_1, gs_7_2, gs_7_3, gs_7_4, gs_7_5, gs_7_6, gs_8_1, gs_8_2, gs_8_3, gs_8_4, gs_8_5, gs_8_6, gs_8_7, gs_9_1, gs_9_2, gs_9_3, gs_9_4, gs_9_5, gs_9_6, gs_9_7, gs_9_8, gs_10_1, gs_10_2, gs_10_3, gs_10_4, gs_10_5, gs_10_6, gs_10_7, gs_10_8, gs_10_9, gs_11_1, gs_11_2, gs_11_3, gs_11_4, gs_11_5, gs_11_6, gs_11_7, gs_11_8, gs_11_9, gs_11_10, gs_12_1, gs_12_2, gs_12_3, gs_12_4, gs_12_5, gs_12_6, gs_12_7, gs_12_8, gs_12_9, gs_12_10, gs_12_11, gs_13_1, gs_13_2, gs_13_3, gs_13_4, gs_13_5, gs_13_6, gs_13_7, gs_13_8, gs_13_9, gs_13_10, gs_13_11, gs_13_12, gs_14_1, gs_14_2, gs_14_3, gs_14_4, gs_14_5, gs_14_6, gs_14_7, gs_14_8, gs_14_9, gs_14_10, gs_14_11, gs_14_12, gs_14_13, gs_15_1, gs_15_2, gs_15_3, gs_15_4, gs_15_5, gs_15_6, gs_15_7, gs_15_8, gs_15_9, gs_15_10, gs_15_11, gs_15_12, gs_15_13, gs_15_14, r1, r2, Int.toNat_natCast, ti]
      refine And.intro (by omega) (And.intro (by omega) ?_)
      have e := ih (i + 1) (uf z (addI (g 3) m (g a k) i s).length (mI (g 3) m (g a k) i)) (by omega) (by omega) hz.cons
      have e2 : ((addI (g 3) m (g a k) (i + 1) s).length : Int) = (addI (g 3) m (g a k) i s).length + 1 := by rw [addI_len, addI_len]; omega
      rw [e2] at e
      exact e
    · have ei : i = (mL (g 3) m (g a k)).toNat := by omega
      have e := hQ z (by rw [← ei]; exact hz) (vI i)
      rw [← ei] at e
      exact e
theorem t_img1 {r a N : Nat} (hr : rowOK r a N) (ha : a ≠ 11) (T : TI (g 3)) {m : Int} {n : Nat} (h0 : 0 ≤ m) (h1 : m < g 3 4) (hn : n ≤ 64) (hl : ∀ i : Nat, i < n → 0 ≤ g a i ∧ g a i < g 3 0) (hQ : ∀ z, Rw z (rimg (g 3) m (toS (g a) n)) → Q (.inl (some (vI (rimg (g 3) m (toS (g a) n)).length))) (tw b f (ga g 11 z))) : ∀ (j : Nat) (k : Nat) (z : Nat → Int) (u : V), n - k < j → k ≤ n → Rw z (rimg (g 3) m (toS (g a) k)) → WP 182 0 6 [vA (some 69), vA (some r), vI n, vI m, vI (rimg (g 3) m (toS (g a) k)).length, vI k, u] [] (tw b f (ga g 11 z)) Q := by
  intro j
  induction j with
  | zero => intro k z u hj; omega
  | succ j ih =>
    intro k z u hj hk hz
    rw [s182_6]
    simp (disch := first | omega | (simp (disch := omega) only [uf_s, uf_n, ug_s, ug_a, ug_i] <;> omega)) only [s182_8, s182_9, s182_12, s182_13, s182_62, s182_64, tk_69, tk_70, tk_71, tk_72, tk_73, tk_74, tk_75, tk_76, tk_77, tk_78, tk_79, tk_80, tk_81, tk_82, tk_83, tk_84, tm_thrown, tm_taped, tm_point, tm_begin, tm_size, tm_faultAt, tm_fault, tm_hasLimit, tm_many, tm_acts, tm_tries, tm_foundMany, tm_isCut, tm_wanted, tm_mapNow, tm_isFound, tm_isNoCode, tm_tape, tm_five, tm_told, tm_draft, tm_word, tm_given, tm_past, tm_sizes, tm_begun, tm_row, tm_imaged, tm_counts, tm_sums, tm_hangs, tm_joined, ta_1, ta_2, ta_3, ta_4, ta_5, ta_6, ta_7, ta_8, ta_9, ta_10, ta_11, ta_12, ta_13, ta_14, ta_15, tp_thrown, tp_taped, tp_point, tp_begin, tp_size, tp_faultAt, tp_fault, tp_hasLimit, tp_many, tp_acts, tp_tries, tp_foundMany, tp_isCut, tp_wanted, tp_mapNow, tp_isFound, tp_isNoCode, tq_1, tq_2, tq_3, tq_4, tq_5, tq_6, tq_7, tq_8, tq_9, tq_10, tq_11, tq_12, tq_13, tq_14, tq_15, zh_45_110, zh_46_110, zh_47_110, zh_48_110, zh_49_110, zh_50_110, zh_51_110, zh_52_110, zh_53_110, zh_54_110, zh_55_110, zh_56_110, zh_57_110, zh_58_110, zh_59_110, zh_60_110, zh_61_110, zh_62_110, zh_63_110, zh_64_110, zh_65_110, zh_66_110, zh_67_110, zh_68_110, zh_69_110, zh_70_110, zh_71_110, zh_72_110, zh_73_110, zh_74_110, zh_75_110, zh_76_110, wr_id, wb_id, wc_id, wl_id, zif_true, zif_false, zret_n, zret_v, uf_s, uf_n, ug_s, ug_a, ug_i, uf_uf, uf_sw, uf_id, vI_inj, vA_inj, true_and, and_true, true_or, or_true, false_or, or_false, znc, Nat.reduceEqDiff, Nat.reduceLeDiff, Nat.reduceAdd, zw_n, zw_i, zw_l, zw_a, zb_01, zb_0, zb_n0, zif_not, Int.reduceEq, Int.reduceLE, Int.reduceLT, Int.reduceNeg, Int.reduceAdd, Int.reduceSub, Int.reduceMul, Int.reduceToNat, and_self, zshr_0]
    refine zif_in (fun q => ?_) (fun q => ?_)
    · have hle := (rimg_len T h0 h1 (s := toS (g a) k) (toS_let (fun i hi => hl i (by omega)))).2
      rw [toS_len] at hle
      refine t_img0 hr ha T h0 h1 (k := k) q (by omega) (hl k (by omega)) (s := rimg (g 3) m (toS (g a) k)) hle (fun z' hz' u' => ?_) _ 0 z (Nat.lt_succ_self _) (by have := T.mLb h0 h1 (hl k (by omega)).1 (hl k (by omega)).2; omega) hz
      simp (disch := first | omega | (simp (disch := omega) only [uf_s, uf_n, ug_s, ug_a, ug_i] <;> omega)) only [s182_56, s182_59, tk_69, tk_70, tk_71, tk_72, tk_73, tk_74, tk_75, tk_76, tk_77, tk_78, tk_79, tk_80, tk_81, tk_82, tk_83, tk_84, tm_thrown, tm_taped, tm_point, tm_begin, tm_size, tm_faultAt, tm_fault, tm_hasLimit, tm_many, tm_acts, tm_tries, tm_foundMany, tm_isCut, tm_wanted, tm_mapNow, tm_isFound, tm_isNoCode, tm_tape, tm_five, tm_told, tm_draft, tm_word, tm_given, tm_past, tm_sizes, tm_begun, tm_row, tm_imaged, tm_counts, tm_sums, tm_hangs, tm_joined, ta_1, ta_2, ta_3, ta_4, ta_5, ta_6, ta_7, ta_8, ta_9, ta_10, ta_11, ta_12, ta_13, ta_14, ta_15, tp_thrown, tp_taped, tp_point, tp_begin, tp_size, tp_faultAt, tp_fault, tp_hasLimit, tp_many, tp_acts, tp_tries, tp_foundMany, tp_isCut, tp_wanted, tp_mapNow, tp_isFound, tp_isNoCode, tq_1, tq_2, tq_3, tq_4, tq_5, tq_6, tq_7, tq_8, tq_9, tq_10, tq_11, tq_12, tq_13, tq_14, tq_15, zh_45_110, zh_46_110, zh_47_110, zh_48_110, zh_49_110, zh_50_110, zh_51_110, zh_52_110, zh_53_110, zh_54_110, zh_55_110, zh_56_110, zh_57_110, zh_58_110, zh_59_110, zh_60_110, zh_61_110, zh_62_110, zh_63_110, zh_64_110, zh_65_110, zh_66_110, zh_67_110, zh_68_110, zh_69_110, zh_70_110, zh_71_110, zh_72_110, zh_73_110, zh_74_110, zh_75_110, zh_76_110, wr_id, wb_id, wc_id, wl_id, zif_true, zif_false, zret_n, zret_v, uf_s, uf_n, ug_s, ug_a, ug_i, uf_uf, uf_sw, uf_id, vI_inj, vA_inj, true_and, and_true, true_or, or_true, false_or, or_false, znc, Nat.reduceEqDiff, Nat.reduceLeDiff, Nat.reduceAdd, zw_n, zw_i, zw_l, zw_a, zb_01, zb_0, zb_n0, zif_not, Int.reduceEq, Int.reduceLE, Int.reduceLT, Int.reduceNeg, Int.reduceAdd, Int.reduceSub, Int.reduceMul, Int.reduceToNat, and_self, zshr_0]
      exact ih (k + 1) z' u' (by omega) (by omega) hz'
    · have ek : k = n := by omega
      subst ek
      exact hQ z hz
theorem t_images {r a N : Nat} (hr : rowOK r a N) (ha : a ≠ 11) (T : TI (g 3)) {m : Int} {n : Nat} (h0 : 0 ≤ m) (h1 : m < g 3 4) (hn : n ≤ 64) (hl : ∀ i : Nat, i < n → 0 ≤ g a i ∧ g a i < g 3 0) (hQ : ∀ z, Rw z (rimg (g 3) m (toS (g a) n)) → Q (.inl (some (vI (rimg (g 3) m (toS (g a) n)).length))) (tw b f (ga g 11 z))) : WP 182 0 0 [vA (some 69), vA (some r), vI n, vI m, vJ, vJ, vJ] [] (tw b f g) Q := by
  simp (disch := first | omega | (simp (disch := omega) only [uf_s, uf_n, ug_s, ug_a, ug_i] <;> omega)) only [s182_0, s182_1, s182_3, s182_4, tk_69, tk_70, tk_71, tk_72, tk_73, tk_74, tk_75, tk_76, tk_77, tk_78, tk_79, tk_80, tk_81, tk_82, tk_83, tk_84, tm_thrown, tm_taped, tm_point, tm_begin, tm_size, tm_faultAt, tm_fault, tm_hasLimit, tm_many, tm_acts, tm_tries, tm_foundMany, tm_isCut, tm_wanted, tm_mapNow, tm_isFound, tm_isNoCode, tm_tape, tm_five, tm_told, tm_draft, tm_word, tm_given, tm_past, tm_sizes, tm_begun, tm_row, tm_imaged, tm_counts, tm_sums, tm_hangs, tm_joined, ta_1, ta_2, ta_3, ta_4, ta_5, ta_6, ta_7, ta_8, ta_9, ta_10, ta_11, ta_12, ta_13, ta_14, ta_15, tp_thrown, tp_taped, tp_point, tp_begin, tp_size, tp_faultAt, tp_fault, tp_hasLimit, tp_many, tp_acts, tp_tries, tp_foundMany, tp_isCut, tp_wanted, tp_mapNow, tp_isFound, tp_isNoCode, tq_1, tq_2, tq_3, tq_4, tq_5, tq_6, tq_7, tq_8, tq_9, tq_10, tq_11, tq_12, tq_13, tq_14, tq_15, zh_45_110, zh_46_110, zh_47_110, zh_48_110, zh_49_110, zh_50_110, zh_51_110, zh_52_110, zh_53_110, zh_54_110, zh_55_110, zh_56_110, zh_57_110, zh_58_110, zh_59_110, zh_60_110, zh_61_110, zh_62_110, zh_63_110, zh_64_110, zh_65_110, zh_66_110, zh_67_110, zh_68_110, zh_69_110, zh_70_110, zh_71_110, zh_72_110, zh_73_110, zh_74_110, zh_75_110, zh_76_110, wr_id, wb_id, wc_id, wl_id, zif_true, zif_false, zret_n, zret_v, uf_s, uf_n, ug_s, ug_a, ug_i, uf_uf, uf_sw, uf_id, vI_inj, vA_inj, true_and, and_true, true_or, or_true, false_or, or_false, znc, Nat.reduceEqDiff, Nat.reduceLeDiff, Nat.reduceAdd, zw_n, zw_i, zw_l, zw_a, zb_01, zb_0, zb_n0, zif_not, Int.reduceEq, Int.reduceLE, Int.reduceLT, Int.reduceNeg, Int.reduceAdd, Int.reduceSub, Int.reduceMul, Int.reduceToNat, and_self, zshr_0]
  have e := t_img1 (b := b) (f := f) hr ha T h0 h1 hn hl hQ _ 0 (g 11) vJ (Nat.lt_succ_self _) (by omega) (fun i hi => by have e : ((rimg (g 3) m (toS (g a) 0)).length : Int) = 0 := rfl; rw [e] at hi; omega)
  rw [ga_id] at e
  exact e
end
