/-! Walks through the reference, 4: rows that are repeated. -/
/-- some number from a to ahead of b is so -/
def xE (a b : Int) (R : Int → Prop) : Prop := ∃ q, a ≤ q ∧ q < b ∧ R q
theorem xE_e {a b : Int} {R : Int → Prop} (h : b ≤ a) : ¬ xE a b R := fun ⟨q, h1, h2, _⟩ => by omega
theorem xE_t {a b : Int} {R : Int → Prop} (h : a < b) (h2 : R a) : xE a b R := ⟨a, by omega, h, h2⟩
theorem xE_f {a b : Int} {R : Int → Prop} (h2 : ¬ R a) : xE a b R ↔ xE (a + 1) b R := by
  constructor
  · rintro ⟨q, h3, h4, h5⟩
    refine ⟨q, ?_, h4, h5⟩
    rcases Int.lt_or_eq_of_le h3 with c | rfl
    · omega
    · exact absurd h5 h2
  · rintro ⟨q, h3, h4, h5⟩
    exact ⟨q, by omega, h4, h5⟩
theorem zif_xE {a b : Int} {R : Int → Prop} {A B : Prop} (h2 : ¬ R a) : zif (xE a b R) A B = zif (xE (a + 1) b R) A B := by rw [propext (xE_f h2)]
theorem zif_xEf {a b : Int} {R : Int → Prop} {A B : Prop} (h : ∀ q, a ≤ q → q < b → ¬ R q) : zif (xE a b R) A B = B := zif_f (fun ⟨q, h1, h2, h3⟩ => h q h1 h2 h3)
theorem zif_xEt {a b : Int} {R : Int → Prop} {A B : Prop} (h : a < b) (h2 : R a) : zif (xE a b R) A B = A := zif_t (xE_t h h2)
/-- what is told: in its bounds -/
def TI (t : Nat → Int) : Prop := (2 ≤ t 0 ∧ t 0 ≤ 4) ∧ (0 ≤ t 1 ∧ t 1 ≤ 2) ∧ (0 ≤ t 2 ∧ t 2 ≤ 99) ∧ (0 ≤ t 3 ∧ t 3 ≤ 9) ∧ (0 ≤ t 4 ∧ t 4 ≤ 4) ∧ (0 ≤ t 5 ∧ t 5 ≤ 4) ∧ (∀ m l : Int, 0 ≤ m → m < t 4 → 0 ≤ l → l < t 0 → 1 ≤ t (54 + 4 * m + l).toNat ∧ t (54 + 4 * m + l).toNat ≤ 6) ∧ (∀ m l k : Int, 0 ≤ m → m < t 4 → 0 ≤ l → l < t 0 → 0 ≤ k → k < t (54 + 4 * m + l).toNat → 0 ≤ t (70 + 6 * (4 * m + l) + k).toNat ∧ t (70 + 6 * (4 * m + l) + k).toNat < t 0) ∧ (∀ p : Int, 0 ≤ p → p < t 5 → 1 ≤ t (166 + p).toNat ∧ t (166 + p).toNat ≤ 6) ∧ (∀ p k : Int, 0 ≤ p → p < t 5 → 0 ≤ k → k < t (166 + p).toNat → 0 ≤ t (170 + 6 * p + k).toNat ∧ t (170 + 6 * p + k).toNat ≤ 2) ∧ (∀ p : Int, 0 ≤ p → p < 4 → t (194 + p).toNat = 0 ∨ t (194 + p).toNat = 1)
section
variable {t : Nat → Int}
theorem TI.n (T : TI t) : 2 ≤ t 0 ∧ t 0 ≤ 4 := T.1
theorem TI.kd (T : TI t) : 0 ≤ t 1 ∧ t 1 ≤ 2 := T.2.1
theorem TI.ab (T : TI t) : 0 ≤ t 2 ∧ t 2 ≤ 99 := T.2.2.1
theorem TI.be (T : TI t) : 0 ≤ t 3 ∧ t 3 ≤ 9 := T.2.2.2.1
theorem TI.mp (T : TI t) : 0 ≤ t 4 ∧ t 4 ≤ 4 := T.2.2.2.2.1
theorem TI.pt (T : TI t) : 0 ≤ t 5 ∧ t 5 ≤ 4 := T.2.2.2.2.2.1
theorem TI.lo (T : TI t) : ∀ m l : Int, 0 ≤ m → m < t 4 → 0 ≤ l → l < t 0 → 1 ≤ t (54 + 4 * m + l).toNat ∧ t (54 + 4 * m + l).toNat ≤ 6 := T.2.2.2.2.2.2.1
theorem TI.im (T : TI t) : ∀ m l k : Int, 0 ≤ m → m < t 4 → 0 ≤ l → l < t 0 → 0 ≤ k → k < t (54 + 4 * m + l).toNat → 0 ≤ t (70 + 6 * (4 * m + l) + k).toNat ∧ t (70 + 6 * (4 * m + l) + k).toNat < t 0 := T.2.2.2.2.2.2.2.1
theorem TI.pl (T : TI t) : ∀ p : Int, 0 ≤ p → p < t 5 → 1 ≤ t (166 + p).toNat ∧ t (166 + p).toNat ≤ 6 := T.2.2.2.2.2.2.2.2.1
theorem TI.pa (T : TI t) : ∀ p k : Int, 0 ≤ p → p < t 5 → 0 ≤ k → k < t (166 + p).toNat → 0 ≤ t (170 + 6 * p + k).toNat ∧ t (170 + 6 * p + k).toNat ≤ 2 := T.2.2.2.2.2.2.2.2.2.1
theorem TI.av (T : TI t) : ∀ p : Int, 0 ≤ p → p < 4 → t (194 + p).toNat = 0 ∨ t (194 + p).toNat = 1 := T.2.2.2.2.2.2.2.2.2.2
end
/-- rows of the reference: which array, which of its numbers, how long -/
def rowOK (r a N : Nat) : Prop := (∀ b f g, hk (tw b f g) r = (1, N)) ∧ (∀ b f g i, hm (tw b f g) r i = vI (g a i)) ∧ 64 ≤ N ∧ N ≤ 384 ∧ (a = 5 ∨ a = 6 ∨ a = 10 ∨ a = 11)
theorem rowOK_74 : rowOK 74 5 64 := ⟨fun _ _ _ => rfl, fun _ _ _ _ => rfl, by omega, by omega, by omega⟩
theorem rowOK_75 : rowOK 75 6 64 := ⟨fun _ _ _ => rfl, fun _ _ _ _ => rfl, by omega, by omega, by omega⟩
theorem rowOK_79 : rowOK 79 10 72 := ⟨fun _ _ _ => rfl, fun _ _ _ _ => rfl, by omega, by omega, by omega⟩
theorem rowOK_80 : rowOK 80 11 384 := ⟨fun _ _ _ => rfl, fun _ _ _ _ => rfl, by omega, by omega, by omega⟩
/-- how long the end with a period is of the first n letters, from k on -/
def eb (w : Nat → Int) (n p k : Int) : Int := if k < n ∧ w (n - 1 - k).toNat = w (n - 1 - k + p).toNat then eb w n p (k + 1) else k
termination_by (n - k).toNat
theorem eb_r (w : Nat → Int) (n p : Int) : ∀ (m : Nat) (k : Int), (n - k).toNat < m → k ≤ n → k ≤ eb w n p k ∧ eb w n p k ≤ n := by
  intro m
  induction m with
  | zero => intro k hn; omega
  | succ m ih =>
    intro k hn hk
    rw [eb]
    split
    · have := ih (k + 1) (by omega) (by omega)
      omega
    · omega
def Beyond (t : Nat → Int) (n p : Int) : Prop := (t 1 = 1 ∧ 0 ≤ n * t 3 - t 2 * p) ∨ (t 1 = 2 ∧ 0 < n * t 3 - t 2 * p)
def Rep (t w : Nat → Int) (n : Int) : Prop := xE 1 (n + 1) (fun p => 0 < t 1 ∧ Beyond t (eb w n p p) p)
section
variable {b : MH} {f : Nat → Int} {g : Nat → Nat → Int} {Q : ZO → MH → Prop}
theorem t_isBeyond (T : TI (g 3)) {n p : Int} (h1 : 0 ≤ n ∧ n ≤ 400) (h2 : 0 ≤ p ∧ p ≤ 400) : WP 187 0 0 [vA (some 69), vI n, vI p, vJ] [] (tw b f g) Q ↔ zif (Beyond (g 3) n p) (Q (.inl (some (vI 1))) (tw b f g)) (Q (.inl (some (vI 0))) (tw b f g)) := by
  have m1 := mulb h1.1 h1.2 T.be.1 T.be.2
  have m2 := mulb T.ab.1 T.ab.2 h2.1 h2.2
  refine wp_iffb (fun c => ?_) (fun c => ?_)
  all_goals
    unfold Beyond at c
    simp (disch := first | omega | (simp (disch := omega) only [uf_s, uf_n, ug_s, ug_a, ug_i] <;> omega)) only [s187_0, s187_1, s187_2, s187_5, s187_6, s187_7, s187_8, s187_9, s187_12, s187_13, s187_14, s187_15, s187_16, s187_17, s187_18, s187_19, s187_22, s187_23, s187_24, s187_25, s187_28, s187_29, s187_32, s187_33, s187_36, s187_37, s187_40, s187_41, s187_44, s187_45, s187_46, s187_47, s187_50, s187_51, s187_54, s187_55, s187_58, s187_59, tk_69, tk_70, tk_71, tk_72, tk_73, tk_74, tk_75, tk_76, tk_77, tk_78, tk_79, tk_80, tk_81, tk_82, tk_83, tk_84, tm_thrown, tm_taped, tm_point, tm_begin, tm_size, tm_faultAt, tm_fault, tm_hasLimit, tm_many, tm_acts, tm_tries, tm_foundMany, tm_isCut, tm_wanted, tm_mapNow, tm_isFound, tm_isNoCode, tm_tape, tm_five, tm_told, tm_draft, tm_word, tm_given, tm_past, tm_sizes, tm_begun, tm_row, tm_imaged, tm_counts, tm_sums, tm_hangs, tm_joined, ta_1, ta_2, ta_3, ta_4, ta_5, ta_6, ta_7, ta_8, ta_9, ta_10, ta_11, ta_12, ta_13, ta_14, ta_15, tp_thrown, tp_taped, tp_point, tp_begin, tp_size, tp_faultAt, tp_fault, tp_hasLimit, tp_many, tp_acts, tp_tries, tp_foundMany, tp_isCut, tp_wanted, tp_mapNow, tp_isFound, tp_isNoCode, tq_1, tq_2, tq_3, tq_4, tq_5, tq_6, tq_7, tq_8, tq_9, tq_10, tq_11, tq_12, tq_13, tq_14, tq_15, zh_45_110, zh_46_110, zh_47_110, zh_48_110, zh_49_110, zh_50_110, zh_51_110, zh_52_110, zh_53_110, zh_54_110, zh_55_110, zh_56_110, zh_57_110, zh_58_110, zh_59_110, zh_60_110, zh_61_110, zh_62_110, zh_63_110, zh_64_110, zh_65_110, zh_66_110, zh_67_110, zh_68_110, zh_69_110, zh_70_110, zh_71_110, zh_72_110, zh_73_110, zh_74_110, zh_75_110, zh_76_110, wr_id, wb_id, wc_id, wl_id, zif_true, zif_false, zret_n, zret_v, uf_s, uf_n, ug_s, ug_a, ug_i, uf_uf, uf_sw, uf_id, vI_inj, vA_inj, true_and, and_true, true_or, or_true, false_or, or_false, znc, Nat.reduceEqDiff, Nat.reduceLeDiff, Nat.reduceAdd, zw_n, zw_i, zw_l, zw_a, zb_01, zb_0, zb_n0, zif_not, Int.reduceEq, Int.reduceLE, Int.reduceLT, Int.reduceNeg, Int.reduceAdd, Int.reduceSub, Int.reduceMul, Int.reduceToNat, and_self, zshr_0]
    generalize n * g 3 3 = A at c m1 ⊢
    generalize g 3 2 * p = B at c m2 ⊢
    repeat' (first | refine zif_in (fun _ => ?_) (fun _ => ?_) | refine And.intro (by omega) ?_ | exact ⟨rfl, rfl⟩ | (rw [zb_t (by omega)]) | (rw [zb_f (by omega)]))
    all_goals first | exact ⟨rfl, rfl⟩ | (exfalso; omega)
theorem t_rep0 {r a N : Nat} (hr : rowOK r a N) {n p : Int} (h1 : n ≤ N) (h2 : 1 ≤ p) : ∀ (m : Nat) (k : Int), (n - k).toNat < m → p ≤ k → (WP 191 0 19 [vA (some 69), vA (some r), vI n, vI p, vI k] [] (tw b f g) Q ↔ WP 191 0 52 [vA (some 69), vA (some r), vI n, vI p, vI (eb (g a) n p k)] [] (tw b f g) Q) := by
  obtain ⟨r1, r2, r3, r4, -⟩ := hr
  intro m
  induction m with
  | zero => intro k hn; omega
  | succ m ih =>
    intro k hn hk
    rw [s191_19]
    simp (disch := first | omega | (simp (disch := omega) only [uf_s, uf_n, ug_s, ug_a, ug_i] <;> omega)) only [s191_21, s191_22, s191_25, s191_26, s191_27, s191_28, s191_29, s191_31, s191_32, s191_33, s191_34, s191_35, s191_36, s191_37, s191_39, s191_40, s191_41, s191_42, s191_43, s191_46, s191_49, r1, r2, tk_69, tk_70, tk_71, tk_72, tk_73, tk_74, tk_75, tk_76, tk_77, tk_78, tk_79, tk_80, tk_81, tk_82, tk_83, tk_84, tm_thrown, tm_taped, tm_point, tm_begin, tm_size, tm_faultAt, tm_fault, tm_hasLimit, tm_many, tm_acts, tm_tries, tm_foundMany, tm_isCut, tm_wanted, tm_mapNow, tm_isFound, tm_isNoCode, tm_tape, tm_five, tm_told, tm_draft, tm_word, tm_given, tm_past, tm_sizes, tm_begun, tm_row, tm_imaged, tm_counts, tm_sums, tm_hangs, tm_joined, ta_1, ta_2, ta_3, ta_4, ta_5, ta_6, ta_7, ta_8, ta_9, ta_10, ta_11, ta_12, ta_13, ta_14, ta_15, tp_thrown, tp_taped, tp_point, tp_begin, tp_size, tp_faultAt, tp_fault, tp_hasLimit, tp_many, tp_acts, tp_tries, tp_foundMany, tp_isCut, tp_wanted, tp_mapNow, tp_isFound, tp_isNoCode, tq_1, tq_2, tq_3, tq_4, tq_5, tq_6, tq_7, tq_8, tq_9, tq_10, tq_11, tq_12, tq_13, tq_14, tq_15, zh_45_110, zh_46_110, zh_47_110, zh_48_110, zh_49_110, zh_50_110, zh_51_110, zh_52_110, zh_53_110, zh_54_110, zh_55_110, zh_56_110, zh_57_110, zh_58_110, zh_59_110, zh_60_110, zh_61_110, zh_62_110, zh_63_110, zh_64_110, zh_65_110, zh_66_110, zh_67_110, zh_68_110, zh_69_110, zh_70_110, zh_71_110, zh_72_110, zh_73_110, zh_74_110, zh_75_110, zh_76_110, wr_id, wb_id, wc_id, wl_id, zif_true, zif_false, zret_n, zret_v, uf_s, uf_n, ug_s, ug_a, ug_i, uf_uf, uf_sw, uf_id, vI_inj, vA_inj, true_and, and_true, true_or, or_true, false_or, or_false, znc, Nat.reduceEqDiff, Nat.reduceLeDiff, Nat.reduceAdd, zw_n, zw_i, zw_l, zw_a, zb_01, zb_0, zb_n0, zif_not, Int.reduceEq, Int.reduceLE, Int.reduceLT, Int.reduceNeg, Int.reduceAdd, Int.reduceSub, Int.reduceMul, Int.reduceToNat, and_self, zshr_0]
    repeat' (first | (refine zif_iff (fun _ => ?_) (fun _ => ?_)) | (refine and_iff' (by omega) ?_) | (simp (disch := first | omega | (simp (disch := omega) only [uf_s, uf_n, ug_s, ug_a, ug_i] <;> omega)) only [wr_id, wb_id, wc_id, wl_id, zif_true, zif_false, zret_n, zret_v, uf_s, uf_n, ug_s, ug_a, ug_i, uf_uf, uf_sw, uf_id, vI_inj, vA_inj, true_and, and_true, true_or, or_true, false_or, or_false, znc, Nat.reduceEqDiff, Nat.reduceLeDiff, Nat.reduceAdd, zw_n, zw_i, zw_l, zw_a, zb_01, zb_0, zb_n0, zif_not, Int.reduceEq, Int.reduceLE, Int.reduceLT, Int.reduceNeg, Int.reduceAdd, Int.reduceSub, Int.reduceMul, Int.reduceToNat, and_self, zshr_0]))
    all_goals first | (rw [eb, if_neg (by omega)]) | (rw [eb, if_pos (by omega)]; exact ih _ (by omega) (by omega))
theorem t_rep1 {r a N : Nat} (hr : rowOK r a N) (T : TI (g 3)) {n : Int} (h1 : n ≤ N) : ∀ (m : Nat) (p : Int), (n + 1 - p).toNat < m → 1 ≤ p → (WP 191 0 2 [vA (some 69), vA (some r), vI n, vI p, vJ] [] (tw b f g) Q ↔ zif (xE p (n + 1) (fun p => 0 < g 3 1 ∧ Beyond (g 3) (eb (g a) n p p) p)) (Q (.inl (some (vI 1))) (tw b f g)) (Q (.inl (some (vI 0))) (tw b f g))) ∧ ∀ x, (WP 191 0 2 [vA (some 69), vA (some r), vI n, vI p, vI x] [] (tw b f g) Q ↔ zif (xE p (n + 1) (fun p => 0 < g 3 1 ∧ Beyond (g 3) (eb (g a) n p p) p)) (Q (.inl (some (vI 1))) (tw b f g)) (Q (.inl (some (vI 0))) (tw b f g))) := by
  intro m
  induction m with
  | zero => intro k hn; omega
  | succ m ih =>
    intro p hn hk
    have r4 := hr.2.2.2.1
    refine ⟨?_, fun x => ?_⟩
    all_goals
      rw [s191_2]
      simp (disch := first | omega | (simp (disch := omega) only [uf_s, uf_n, ug_s, ug_a, ug_i] <;> omega)) only [s191_3, s191_4, s191_7, s191_8, s191_11, s191_12, s191_13, s191_16, s191_17, s191_70, s191_71, tk_69, tk_70, tk_71, tk_72, tk_73, tk_74, tk_75, tk_76, tk_77, tk_78, tk_79, tk_80, tk_81, tk_82, tk_83, tk_84, tm_thrown, tm_taped, tm_point, tm_begin, tm_size, tm_faultAt, tm_fault, tm_hasLimit, tm_many, tm_acts, tm_tries, tm_foundMany, tm_isCut, tm_wanted, tm_mapNow, tm_isFound, tm_isNoCode, tm_tape, tm_five, tm_told, tm_draft, tm_word, tm_given, tm_past, tm_sizes, tm_begun, tm_row, tm_imaged, tm_counts, tm_sums, tm_hangs, tm_joined, ta_1, ta_2, ta_3, ta_4, ta_5, ta_6, ta_7, ta_8, ta_9, ta_10, ta_11, ta_12, ta_13, ta_14, ta_15, tp_thrown, tp_taped, tp_point, tp_begin, tp_size, tp_faultAt, tp_fault, tp_hasLimit, tp_many, tp_acts, tp_tries, tp_foundMany, tp_isCut, tp_wanted, tp_mapNow, tp_isFound, tp_isNoCode, tq_1, tq_2, tq_3, tq_4, tq_5, tq_6, tq_7, tq_8, tq_9, tq_10, tq_11, tq_12, tq_13, tq_14, tq_15, zh_45_110, zh_46_110, zh_47_110, zh_48_110, zh_49_110, zh_50_110, zh_51_110, zh_52_110, zh_53_110, zh_54_110, zh_55_110, zh_56_110, zh_57_110, zh_58_110, zh_59_110, zh_60_110, zh_61_110, zh_62_110, zh_63_110, zh_64_110, zh_65_110, zh_66_110, zh_67_110, zh_68_110, zh_69_110, zh_70_110, zh_71_110, zh_72_110, zh_73_110, zh_74_110, zh_75_110, zh_76_110, wr_id, wb_id, wc_id, wl_id, zif_true, zif_false, zret_n, zret_v, uf_s, uf_n, ug_s, ug_a, ug_i, uf_uf, uf_sw, uf_id, vI_inj, vA_inj, true_and, and_true, true_or, or_true, false_or, or_false, znc, Nat.reduceEqDiff, Nat.reduceLeDiff, Nat.reduceAdd, zw_n, zw_i, zw_l, zw_a, zb_01, zb_0, zb_n0, zif_not, Int.reduceEq, Int.reduceLE, Int.reduceLT, Int.reduceNeg, Int.reduceAdd, Int.reduceSub, Int.reduceMul, Int.reduceToNat, and_self, zshr_0]
      refine zif_iff (fun c1 => ?_) (fun c1 => and_iff' (by omega) (zif_iff (fun c2 => ?_) (fun c2 => ?_)))
      · rw [zif_xEf (fun q h1 h2 z => by omega)]
      · have e := eb_r (g a) n p _ p (Nat.lt_succ_self _) (by omega)
        rw [t_rep0 hr h1 hk _ p (Nat.lt_succ_self _) (by omega)]
        simp (disch := first | omega | (simp (disch := omega) only [uf_s, uf_n, ug_s, ug_a, ug_i] <;> omega)) only [s191_52, s191_53, s191_55, s191_56, s191_59, s191_62, s191_63, s191_64, s191_67, tk_69, tk_70, tk_71, tk_72, tk_73, tk_74, tk_75, tk_76, tk_77, tk_78, tk_79, tk_80, tk_81, tk_82, tk_83, tk_84, tm_thrown, tm_taped, tm_point, tm_begin, tm_size, tm_faultAt, tm_fault, tm_hasLimit, tm_many, tm_acts, tm_tries, tm_foundMany, tm_isCut, tm_wanted, tm_mapNow, tm_isFound, tm_isNoCode, tm_tape, tm_five, tm_told, tm_draft, tm_word, tm_given, tm_past, tm_sizes, tm_begun, tm_row, tm_imaged, tm_counts, tm_sums, tm_hangs, tm_joined, ta_1, ta_2, ta_3, ta_4, ta_5, ta_6, ta_7, ta_8, ta_9, ta_10, ta_11, ta_12, ta_13, ta_14, ta_15, tp_thrown, tp_taped, tp_point, tp_begin, tp_size, tp_faultAt, tp_fault, tp_hasLimit, tp_many, tp_acts, tp_tries, tp_foundMany, tp_isCut, tp_wanted, tp_mapNow, tp_isFound, tp_isNoCode, tq_1, tq_2, tq_3, tq_4, tq_5, tq_6, tq_7, tq_8, tq_9, tq_10, tq_11, tq_12, tq_13, tq_14, tq_15, zh_45_110, zh_46_110, zh_47_110, zh_48_110, zh_49_110, zh_50_110, zh_51_110, zh_52_110, zh_53_110, zh_54_110, zh_55_110, zh_56_110, zh_57_110, zh_58_110, zh_59_110, zh_60_110, zh_61_110, zh_62_110, zh_63_110, zh_64_110, zh_65_110, zh_66_110, zh_67_110, zh_68_110, zh_69_110, zh_70_110, zh_71_110, zh_72_110, zh_73_110, zh_74_110, zh_75_110, zh_76_110, wr_id, wb_id, wc_id, wl_id, zif_true, zif_false, zret_n, zret_v, uf_s, uf_n, ug_s, ug_a, ug_i, uf_uf, uf_sw, uf_id, vI_inj, vA_inj, true_and, and_true, true_or, or_true, false_or, or_false, znc, Nat.reduceEqDiff, Nat.reduceLeDiff, Nat.reduceAdd, zw_n, zw_i, zw_l, zw_a, zb_01, zb_0, zb_n0, zif_not, Int.reduceEq, Int.reduceLE, Int.reduceLT, Int.reduceNeg, Int.reduceAdd, Int.reduceSub, Int.reduceMul, Int.reduceToNat, and_self, zshr_0, t_isBeyond T (n := eb (g a) n p p) (p := p) ⟨by omega, by omega⟩ ⟨by omega, by omega⟩]
        refine zif_iff (fun c3 => ?_) (fun c3 => ?_)
        · rw [zif_xEt (by omega) ⟨by omega, c3⟩]
        · rw [zif_xE (fun z => c3 z.2)]
          exact (ih (p + 1) (by omega) (by omega)).2 _
      · rw [zif_xEf (fun q h1 h2 z => absurd z.1 (by omega))]
theorem t_isRepeated {r a N : Nat} (hr : rowOK r a N) (T : TI (g 3)) {n : Int} (h1 : n ≤ N) : WP 191 0 0 [vA (some 69), vA (some r), vI n, vJ, vJ] [] (tw b f g) Q ↔ zif (Rep (g 3) (g a) n) (Q (.inl (some (vI 1))) (tw b f g)) (Q (.inl (some (vI 0))) (tw b f g)) := by
  simp (disch := first | omega | (simp (disch := omega) only [uf_s, uf_n, ug_s, ug_a, ug_i] <;> omega)) only [s191_0, s191_1, tk_69, tk_70, tk_71, tk_72, tk_73, tk_74, tk_75, tk_76, tk_77, tk_78, tk_79, tk_80, tk_81, tk_82, tk_83, tk_84, tm_thrown, tm_taped, tm_point, tm_begin, tm_size, tm_faultAt, tm_fault, tm_hasLimit, tm_many, tm_acts, tm_tries, tm_foundMany, tm_isCut, tm_wanted, tm_mapNow, tm_isFound, tm_isNoCode, tm_tape, tm_five, tm_told, tm_draft, tm_word, tm_given, tm_past, tm_sizes, tm_begun, tm_row, tm_imaged, tm_counts, tm_sums, tm_hangs, tm_joined, ta_1, ta_2, ta_3, ta_4, ta_5, ta_6, ta_7, ta_8, ta_9, ta_10, ta_11, ta_12, ta_13, ta_14, ta_15, tp_thrown, tp_taped, tp_point, tp_begin, tp_size, tp_faultAt, tp_fault, tp_hasLimit, tp_many, tp_acts, tp_tries, tp_foundMany, tp_isCut, tp_wanted, tp_mapNow, tp_isFound, tp_isNoCode, tq_1, tq_2, tq_3, tq_4, tq_5, tq_6, tq_7, tq_8, tq_9, tq_10, tq_11, tq_12, tq_13, tq_14, tq_15, zh_45_110, zh_46_110, zh_47_110, zh_48_110, zh_49_110, zh_50_110, zh_51_110, zh_52_110, zh_53_110, zh_54_110, zh_55_110, zh_56_110, zh_57_110, zh_58_110, zh_59_110, zh_60_110, zh_61_110, zh_62_110, zh_63_110, zh_64_110, zh_65_110, zh_66_110, zh_67_110, zh_68_110, zh_69_110, zh_70_110, zh_71_110, zh_72_110, zh_73_110, zh_74_110, zh_75_110, zh_76_110, wr_id, wb_id, wc_id, wl_id, zif_true, zif_false, zret_n, zret_v, uf_s, uf_n, ug_s, ug_a, ug_i, uf_uf, uf_sw, uf_id, vI_inj, vA_inj, true_and, and_true, true_or, or_true, false_or, or_false, znc, Nat.reduceEqDiff, Nat.reduceLeDiff, Nat.reduceAdd, zw_n, zw_i, zw_l, zw_a, zb_01, zb_0, zb_n0, zif_not, Int.reduceEq, Int.reduceLE, Int.reduceLT, Int.reduceNeg, Int.reduceAdd, Int.reduceSub, Int.reduceMul, Int.reduceToNat, and_self, zshr_0]
  exact (t_rep1 hr T h1 _ 1 (Nat.lt_succ_self _) (by omega)).1
end
