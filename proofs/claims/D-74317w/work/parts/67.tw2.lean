/-! Walks through the reference's methods, 2: words on the tape. -/
/-- the first place from k on, ahead of s, that holds no small letter -/
def skW (t : Nat → Int) (s k : Int) : Int := if k < s ∧ 97 ≤ t k.toNat ∧ t k.toNat ≤ 122 then skW t s (k + 1) else k
termination_by (s - k).toNat
theorem t_wordMany0 {b : MH} {f : Nat → Int} {g : Nat → Nat → Int} (h0 : 0 ≤ f 49) (h1 : f 51 ≤ 400) : ∀ (n : Nat) (k : Int), f 49 ≤ k → k ≤ 400 → (f 51 - k).toNat < n → WP 254 0 9 [vA (some 69), vI k] [] (tw b f g) (zD (.inl (some (vI (skW (g 1) (f 51) k - f 49)))) (tw b f g)) := by
  intro n
  induction n with
  | zero => intro k h2 h3 hn; omega
  | succ n ih =>
    intro k h2 h3 hn
    rw [s254_9]
    simp (disch := first | omega | (simp (disch := omega) only [uf_s, uf_n, ug_s, ug_a, ug_i] <;> omega)) only [s254_10, s254_11, s254_14, s254_17, s254_18, s254_21, s254_22, s254_23, s254_25, s254_28, s254_29, s254_32, s254_33, s254_34, s254_36, s254_39, s254_42, s254_45, s254_46, s254_47, s254_50, s254_51, tk_69, tk_70, tk_71, tk_72, tk_73, tk_74, tk_75, tk_76, tk_77, tk_78, tk_79, tk_80, tk_81, tk_82, tk_83, tk_84, tm_thrown, tm_taped, tm_point, tm_begin, tm_size, tm_faultAt, tm_fault, tm_hasLimit, tm_many, tm_acts, tm_tries, tm_foundMany, tm_isCut, tm_wanted, tm_mapNow, tm_isFound, tm_isNoCode, tm_tape, tm_five, tm_told, tm_draft, tm_word, tm_given, tm_past, tm_sizes, tm_begun, tm_row, tm_imaged, tm_counts, tm_sums, tm_hangs, tm_joined, ta_1, ta_2, ta_3, ta_4, ta_5, ta_6, ta_7, ta_8, ta_9, ta_10, ta_11, ta_12, ta_13, ta_14, ta_15, tp_thrown, tp_taped, tp_point, tp_begin, tp_size, tp_faultAt, tp_fault, tp_hasLimit, tp_many, tp_acts, tp_tries, tp_foundMany, tp_isCut, tp_wanted, tp_mapNow, tp_isFound, tp_isNoCode, tq_1, tq_2, tq_3, tq_4, tq_5, tq_6, tq_7, tq_8, tq_9, tq_10, tq_11, tq_12, tq_13, tq_14, tq_15, zh_45_110, zh_46_110, zh_47_110, zh_48_110, zh_49_110, zh_50_110, zh_51_110, zh_52_110, zh_53_110, zh_54_110, zh_55_110, zh_56_110, zh_57_110, zh_58_110, zh_59_110, zh_60_110, zh_61_110, zh_62_110, zh_63_110, zh_64_110, zh_65_110, zh_66_110, zh_67_110, zh_68_110, zh_69_110, zh_70_110, zh_71_110, zh_72_110, zh_73_110, zh_74_110, zh_75_110, zh_76_110, wr_id, wb_id, wc_id, wl_id, zif_true, zif_false, zret_n, zret_v, uf_s, uf_n, ug_s, ug_a, ug_i, uf_uf, uf_sw, uf_id, vI_inj, vA_inj, true_and, and_true, true_or, or_true, false_or, or_false, znc, Nat.reduceEqDiff, Nat.reduceLeDiff, Nat.reduceAdd, zw_n, zw_i, zw_l, zw_a, zb_01, zb_0, zb_n0, zif_not]
    have e : k < f 51 → k + 1 ≤ 400 := by omega
    refine zif_in (fun c1 => And.intro (by omega) (zif_in (fun c => ?_) (fun c => And.intro (by omega) (zif_in (fun c' => ?_) (fun c' => ?_))))) (fun c => ?_)
    · rw [skW, if_neg (by omega)]
      exact ⟨rfl, rfl⟩
    · rw [skW, if_neg (by omega)]
      exact ⟨rfl, rfl⟩
    · rw [skW, if_pos (by omega)]
      exact ih (k + 1) (by omega) (by omega) (by omega)
    · rw [skW, if_neg (by omega)]
      exact ⟨rfl, rfl⟩
theorem skW_r (t : Nat → Int) (s : Int) : ∀ (n : Nat) (k : Int), (s - k).toNat < n → k ≤ skW t s k ∧ (skW t s k ≤ s ∨ skW t s k = k) := by
  intro n
  induction n with
  | zero => intro k hn; omega
  | succ n ih =>
    intro k hn
    rw [skW]
    split
    · have := ih (k + 1) (by omega)
      omega
    · omega
theorem skB_r (t : Nat → Int) (s : Int) : ∀ (n : Nat) (k : Int), (s - k).toNat < n → k ≤ skB t s k ∧ (skB t s k ≤ s ∨ skB t s k = k) := by
  intro n
  induction n with
  | zero => intro k hn; omega
  | succ n ih =>
    intro k hn
    rw [skB]
    split
    · have := ih (k + 1) (by omega)
      omega
    · omega
theorem t_wordMany {b : MH} {f : Nat → Int} {g : Nat → Nat → Int} {Q : ZO → MH → Prop} (h1 : 0 ≤ f 49 ∧ f 49 ≤ 400) (h2 : f 51 ≤ 400) : WP 254 0 0 [vA (some 69), vJ] [] (tw b f g) Q ↔ Q (.inl (some (vI (skW (g 1) (f 51) (skB (g 1) (f 51) (f 49)) - skB (g 1) (f 51) (f 49))))) (tw b (uf (uf f 49 (skB (g 1) (f 51) (f 49))) 50 (skB (g 1) (f 51) (f 49))) g) := by
  refine wp_iff ?_
  have r := skB_r (g 1) (f 51) _ (f 49) (Nat.lt_succ_self _)
  have W := t_wordMany0 (b := b) (f := uf (uf f 49 (skB (g 1) (f 51) (f 49))) 50 (skB (g 1) (f 51) (f 49))) (g := g) (by simp (disch := first | omega | (simp (disch := omega) only [uf_s, uf_n, ug_s, ug_a, ug_i] <;> omega)) only [uf_s, uf_n, ug_s, ug_a, ug_i, uf_uf, uf_sw, uf_id]; omega) (by simp (disch := first | omega | (simp (disch := omega) only [uf_s, uf_n, ug_s, ug_a, ug_i] <;> omega)) only [uf_s, uf_n, ug_s, ug_a, ug_i, uf_uf, uf_sw, uf_id]; omega) _ (skB (g 1) (f 51) (f 49)) (by simp (disch := first | omega | (simp (disch := omega) only [uf_s, uf_n, ug_s, ug_a, ug_i] <;> omega)) only [uf_s, uf_n, ug_s, ug_a, ug_i, uf_uf, uf_sw, uf_id]; omega) (by omega) (Nat.lt_succ_self _)
  simp (disch := first | omega | (simp (disch := omega) only [uf_s, uf_n, ug_s, ug_a, ug_i] <;> omega)) only [uf_s, uf_n, ug_s, ug_a, ug_i, uf_uf, uf_sw, uf_id] at W
  simp (disch := first | omega | (simp (disch := omega) only [uf_s, uf_n, ug_s, ug_a, ug_i] <;> omega)) only [s254_0, s254_1, s254_4, s254_5, s254_8, tk_69, tk_70, tk_71, tk_72, tk_73, tk_74, tk_75, tk_76, tk_77, tk_78, tk_79, tk_80, tk_81, tk_82, tk_83, tk_84, tm_thrown, tm_taped, tm_point, tm_begin, tm_size, tm_faultAt, tm_fault, tm_hasLimit, tm_many, tm_acts, tm_tries, tm_foundMany, tm_isCut, tm_wanted, tm_mapNow, tm_isFound, tm_isNoCode, tm_tape, tm_five, tm_told, tm_draft, tm_word, tm_given, tm_past, tm_sizes, tm_begun, tm_row, tm_imaged, tm_counts, tm_sums, tm_hangs, tm_joined, ta_1, ta_2, ta_3, ta_4, ta_5, ta_6, ta_7, ta_8, ta_9, ta_10, ta_11, ta_12, ta_13, ta_14, ta_15, tp_thrown, tp_taped, tp_point, tp_begin, tp_size, tp_faultAt, tp_fault, tp_hasLimit, tp_many, tp_acts, tp_tries, tp_foundMany, tp_isCut, tp_wanted, tp_mapNow, tp_isFound, tp_isNoCode, tq_1, tq_2, tq_3, tq_4, tq_5, tq_6, tq_7, tq_8, tq_9, tq_10, tq_11, tq_12, tq_13, tq_14, tq_15, zh_45_110, zh_46_110, zh_47_110, zh_48_110, zh_49_110, zh_50_110, zh_51_110, zh_52_110, zh_53_110, zh_54_110, zh_55_110, zh_56_110, zh_57_110, zh_58_110, zh_59_110, zh_60_110, zh_61_110, zh_62_110, zh_63_110, zh_64_110, zh_65_110, zh_66_110, zh_67_110, zh_68_110, zh_69_110, zh_70_110, zh_71_110, zh_72_110, zh_73_110, zh_74_110, zh_75_110, zh_76_110, wr_id, wb_id, wc_id, wl_id, zif_true, zif_false, zret_n, zret_v, uf_s, uf_n, ug_s, ug_a, ug_i, uf_uf, uf_sw, uf_id, vI_inj, vA_inj, true_and, and_true, true_or, or_true, false_or, or_false, znc, Nat.reduceEqDiff, Nat.reduceLeDiff, Nat.reduceAdd, zw_n, zw_i, zw_l, zw_a, zb_01, zb_0, zb_n0, zif_not, t_blanks]
  exact W
