/-! Walks through the reference's methods, 1: the tape. -/
theorem uf_sw {f : Nat → Int} {k j : Nat} {x y : Int} (h : k < j) : uf (uf f j x) k y = uf (uf f k y) j x := by
  funext i
  unfold uf
  by_cases h1 : i = k
  · by_cases h2 : i = j
    · omega
    · simp [h1, h2]; omega
  · simp [h1]
theorem t_isAt {b : MH} {f : Nat → Int} {g : Nat → Nat → Int} {lo hi : Int} {Q : ZO → MH → Prop} (h1 : 0 ≤ f 49) (h2 : f 51 ≤ 400) : WP 186 0 0 [vA (some 69), vI lo, vI hi] [] (tw b f g) Q ↔ Q (.inl (some (vI (zb (f 49 < f 51 ∧ lo ≤ g 1 (f 49).toNat ∧ g 1 (f 49).toNat ≤ hi))))) (tw b f g) := by
  refine wp_iff ?_
  simp only [s186_0, s186_1, s186_4, s186_5, s186_8, s186_11, s186_12, s186_15, s186_16, s186_19, s186_20, s186_21, s186_24, s186_25, s186_28, s186_29, s186_32, s186_33, s186_34, s186_37, s186_38, s186_41, s186_42, tk_69, tk_70, tk_71, tk_72, tk_73, tk_74, tk_75, tk_76, tk_77, tk_78, tk_79, tk_80, tk_81, tk_82, tk_83, tk_84, tm_thrown, tm_taped, tm_point, tm_begin, tm_size, tm_faultAt, tm_fault, tm_hasLimit, tm_many, tm_acts, tm_tries, tm_foundMany, tm_isCut, tm_wanted, tm_mapNow, tm_isFound, tm_isNoCode, tm_tape, tm_five, tm_told, tm_draft, tm_word, tm_given, tm_past, tm_sizes, tm_begun, tm_row, tm_imaged, tm_counts, tm_sums, tm_hangs, tm_joined, ta_1, ta_2, ta_3, ta_4, ta_5, ta_6, ta_7, ta_8, ta_9, ta_10, ta_11, ta_12, ta_13, ta_14, ta_15, tp_thrown, tp_taped, tp_point, tp_begin, tp_size, tp_faultAt, tp_fault, tp_hasLimit, tp_many, tp_acts, tp_tries, tp_foundMany, tp_isCut, tp_wanted, tp_mapNow, tp_isFound, tp_isNoCode, tq_1, tq_2, tq_3, tq_4, tq_5, tq_6, tq_7, tq_8, tq_9, tq_10, tq_11, tq_12, tq_13, tq_14, tq_15, zh_45_110, zh_46_110, zh_47_110, zh_48_110, zh_49_110, zh_50_110, zh_51_110, zh_52_110, zh_53_110, zh_54_110, zh_55_110, zh_56_110, zh_57_110, zh_58_110, zh_59_110, zh_60_110, zh_61_110, zh_62_110, zh_63_110, zh_64_110, zh_65_110, zh_66_110, zh_67_110, zh_68_110, zh_69_110, zh_70_110, zh_71_110, zh_72_110, zh_73_110, zh_74_110, zh_75_110, zh_76_110, wr_id, wb_id, wc_id, wl_id, zif_true, zif_false, zret_n, zret_v, uf_s, uf_n, ug_s, ug_a, ug_i, uf_uf, uf_sw, uf_id, vI_inj, vA_inj, true_and, and_true, true_or, or_true, false_or, or_false, znc, Nat.reduceEqDiff, Nat.reduceLeDiff, Nat.reduceAdd, zw_n, zw_i, zw_l, zw_a, zb_01, zb_0, zb_n0, zif_not]
  repeat' (first | refine zif_in (fun _ => ?_) (fun _ => ?_) | refine And.intro (by omega) ?_ | exact ⟨rfl, rfl⟩ | (rw [zb_t (by omega)]) | (rw [zb_f (by omega)]))
/-- the first place from p on, ahead of s, that holds no blank -/
def skB (t : Nat → Int) (s p : Int) : Int := if p < s ∧ ((9 ≤ t p.toNat ∧ t p.toNat ≤ 10) ∨ (32 ≤ t p.toNat ∧ t p.toNat ≤ 32)) then skB t s (p + 1) else p
termination_by (s - p).toNat
theorem t_blanks0 {b : MH} {g : Nat → Nat → Int} : ∀ (n : Nat) (f : Nat → Int), 0 ≤ f 49 → f 51 ≤ 400 → (f 51 - f 49).toNat < n → WP 145 0 0 [vA (some 69)] [] (tw b f g) (zD (.inl none) (tw b (uf (uf f 49 (skB (g 1) (f 51) (f 49))) 50 (skB (g 1) (f 51) (f 49))) g)) := by
  intro n
  induction n with
  | zero => intro f h0 h1 hn; omega
  | succ n ih =>
    intro f h0 h1 hn
    have IH := ih (uf f 49 (f 49 + 1)) (by simp (disch := omega) only [uf_s, uf_n, ug_s, ug_a, ug_i, uf_uf, uf_sw, uf_id] <;> omega) (by simp (disch := omega) only [uf_s, uf_n, ug_s, ug_a, ug_i, uf_uf, uf_sw, uf_id] <;> omega)
    simp (disch := omega) only [uf_s, uf_n, ug_s, ug_a, ug_i, uf_uf, uf_sw, uf_id] at IH
    rw [s145_0]
    simp (disch := first | omega | (simp (disch := omega) only [uf_s, uf_n, ug_s, ug_a, ug_i] <;> omega)) only [s145_1, s145_3, s145_5, s145_8, s145_11, s145_12, s145_14, s145_16, s145_19, s145_22, s145_23, s145_23i, s145_24, s145_27, s145_28, s145_29, s145_32, s145_35, s145_36, s145_37, s145_40, s145_43, tk_69, tk_70, tk_71, tk_72, tk_73, tk_74, tk_75, tk_76, tk_77, tk_78, tk_79, tk_80, tk_81, tk_82, tk_83, tk_84, tm_thrown, tm_taped, tm_point, tm_begin, tm_size, tm_faultAt, tm_fault, tm_hasLimit, tm_many, tm_acts, tm_tries, tm_foundMany, tm_isCut, tm_wanted, tm_mapNow, tm_isFound, tm_isNoCode, tm_tape, tm_five, tm_told, tm_draft, tm_word, tm_given, tm_past, tm_sizes, tm_begun, tm_row, tm_imaged, tm_counts, tm_sums, tm_hangs, tm_joined, ta_1, ta_2, ta_3, ta_4, ta_5, ta_6, ta_7, ta_8, ta_9, ta_10, ta_11, ta_12, ta_13, ta_14, ta_15, tp_thrown, tp_taped, tp_point, tp_begin, tp_size, tp_faultAt, tp_fault, tp_hasLimit, tp_many, tp_acts, tp_tries, tp_foundMany, tp_isCut, tp_wanted, tp_mapNow, tp_isFound, tp_isNoCode, tq_1, tq_2, tq_3, tq_4, tq_5, tq_6, tq_7, tq_8, tq_9, tq_10, tq_11, tq_12, tq_13, tq_14, tq_15, zh_45_110, zh_46_110, zh_47_110, zh_48_110, zh_49_110, zh_50_110, zh_51_110, zh_52_110, zh_53_110, zh_54_110, zh_55_110, zh_56_110, zh_57_110, zh_58_110, zh_59_110, zh_60_110, zh_61_110, zh_62_110, zh_63_110, zh_64_110, zh_65_110, zh_66_110, zh_67_110, zh_68_110, zh_69_110, zh_70_110, zh_71_110, zh_72_110, zh_73_110, zh_74_110, zh_75_110, zh_76_110, wr_id, wb_id, wc_id, wl_id, zif_true, zif_false, zret_n, zret_v, uf_s, uf_n, ug_s, ug_a, ug_i, uf_uf, uf_sw, uf_id, vI_inj, vA_inj, true_and, and_true, true_or, or_true, false_or, or_false, znc, Nat.reduceEqDiff, Nat.reduceLeDiff, Nat.reduceAdd, zw_n, zw_i, zw_l, zw_a, zb_01, zb_0, zb_n0, zif_not, t_isAt]
    refine zif_in (fun c => ?_) (fun c => zif_in (fun c' => ?_) (fun c' => ?_))
    · rw [skB, if_pos (by omega), wr_id (by omega)]
      exact IH (by omega)
    · rw [skB, if_pos (by omega), wr_id (by omega)]
      exact IH (by omega)
    · rw [skB, if_neg (by omega), uf_id]
      exact ⟨rfl, rfl⟩
theorem t_blanks {b : MH} {f : Nat → Int} {g : Nat → Nat → Int} {Q : ZO → MH → Prop} (h1 : 0 ≤ f 49) (h2 : f 51 ≤ 400) : WP 145 0 0 [vA (some 69)] [] (tw b f g) Q ↔ Q (.inl none) (tw b (uf (uf f 49 (skB (g 1) (f 51) (f 49))) 50 (skB (g 1) (f 51) (f 49))) g) := wp_iff (t_blanks0 _ f h1 h2 (Nat.lt_succ_self _))
