/-! Walks through the reference, 35: codes. -/
set_option maxRecDepth 20000
def HasR (t : Nat → Int) (m : Int) (H : Nat → Int) (nc : Int) (r : List Int) : Prop := nc = 1 ∨ (r ≠ [] ∧ ∃ p, H p = 1 ∧ p < 24 ∧ endL t m p = r)
def HInv (t : Nat → Int) (m : Int) (H : Nat → Int) (nc : Int) : Prop := (∀ p, p < 24 → H p = 0 ∨ H p = 1) ∧ (∀ p, p < 24 → H p = 1 → plcOK t m p ∧ Der t m (endL t m p)) ∧ (nc = 0 ∨ nc = 1) ∧ (nc = 1 → Der t m [])
def HMono (H H' : Nat → Int) : Prop := ∀ p, H p = 1 → H' p = 1
def zer (H : Nat → Int) : Int := sumN (fun p => 1 - H p) 24
theorem HasR_mono {t : Nat → Int} {m : Int} {H H' : Nat → Int} {nc nc' : Int} {r : List Int} (h : HasR t m H nc r) (h1 : HMono H H') (h2 : nc = 1 → nc' = 1) : HasR t m H' nc' r := by
  rcases h with e | ⟨a, p, b, c, d⟩
  · exact Or.inl (h2 e)
  · exact Or.inr ⟨a, p, h1 p b, c, d⟩
theorem sumN_uf {H : Nat → Int} {p : Nat} {v : Int} : ∀ n : Nat, sumN (fun q => 1 - uf H p v q) n = sumN (fun q => 1 - H q) n + (if p < n then H p - v else 0)
  | 0 => by rw [if_neg (by omega)]; rfl
  | n + 1 => by
    show sumN (fun q => 1 - uf H p v q) n + (1 - uf H p v n) = sumN (fun q => 1 - H q) n + (1 - H n) + _
    rw [sumN_uf n]
    by_cases c : p = n
    · rw [c, if_neg (by omega), if_pos (by omega), uf_s]; omega
    · rw [uf_n (fun z => c z.symm)]
      by_cases c2 : p < n
      · rw [if_pos c2, if_pos (by omega)]; omega
      · rw [if_neg c2, if_neg (by omega)]; omega
theorem zer_uf {H : Nat → Int} {p : Nat} (hp : p < 24) (h : H p = 0) : zer (uf H p 1) < zer H := by
  unfold zer
  rw [sumN_uf, if_pos hp]
  omega
theorem zer_b {H : Nat → Int} (h : ∀ p, p < 24 → H p = 0 ∨ H p = 1) : 0 ≤ zer H ∧ zer H ≤ 24 := by
  have := sumN_b (F := fun p => 1 - H p) (M := 1) 24 (fun i hi => by have := h i hi; show 0 ≤ 1 - H i ∧ 1 - H i ≤ 1; omega)
  unfold zer
  omega
theorem endL_ne {t : Nat → Int} {m : Int} {p : Nat} (h : plcOK t m p) : endL t m p ≠ [] := by
  intro e
  have := congrArg List.length e
  unfold endL at this
  rw [List.length_drop, imL_len] at this
  obtain ⟨h1, h2, h3, h4⟩ := h
  have : ((mL t m ((p / 6 : Nat) : Int)).toNat - p % 6) = 0 := this
  omega
theorem zor_00 : zor 0 0 = 0 := by decide
theorem zor_01 : zor 0 1 = 1 := by decide
theorem zor_10 : zor 1 0 = 1 := by decide
theorem zor_11 : zor 1 1 = 1 := by decide
section
variable {b : MH} {f : Nat → Int} {g : Nat → Nat → Int} {ws : List (List Int)} {Q : ZO → MH → Prop}
theorem t_ag (T0 : TI (g 3)) {m : Int} (h0 : 0 ≤ m ∧ m < g 3 4) {a fr c : Nat} (ha : (a : Int) < g 3 0) (hc : (c : Int) < g 3 0) (hf : (fr : Int) < mL (g 3) m a) {H : Nat → Int} {nc : Int} (hI : HInv (g 3) m H nc) (hs : ∀ r, NxR (g 3) m ((imL (g 3) m a).drop fr) c r → Der (g 3) m r) (hQ : ∀ H' nc' ret, HInv (g 3) m H' nc' → (∀ r, NxR (g 3) m ((imL (g 3) m a).drop fr) c r → HasR (g 3) m H' nc' r) → HMono H H' → (nc = 1 → nc' = 1) → (ret = 0 ∧ H' = H) ∨ (ret = 1 ∧ zer H' < zer H) → Q (.inl (some (vI ret))) (tw b (uf f 75 nc') (ga g 14 H'))) : WP 134 0 0 [vA (some 69), vI m, vI a, vI fr, vI c, vJ, vJ, vJ, vJ] [] (tw b (uf f 75 nc) (ga g 14 H)) Q := by
  have e3 : ga g 14 H 3 = g 3 := ga_n (by omega)
  have e14 : ga g 14 H 14 = H := ga_s _ _ _
  obtain ⟨i1, i2, i3, i4⟩ := hI
  refine t_against (g := ga g 14 H) (f := uf f 75 nc) (by rw [e3]; exact T0) (by rw [e3]; exact h0) (by rw [e3]; exact ha) (by rw [e3]; exact hc) (by rw [e3]; exact hf) ?_ ?_ ?_
  · rw [e3, uf_uf]
    intro hn
    exact hQ H 1 0 ⟨i1, i2, Or.inr rfl, fun _ => hs _ hn⟩ (fun r _ => Or.inl rfl) (fun p hp => hp) (fun _ => rfl) (Or.inl ⟨rfl, rfl⟩)
  · rw [e3, e14]
    intro p hp hu hn
    have hd := hs _ hn
    refine ⟨fun hz => ?_, fun hz => ?_⟩
    · rw [ga_ga]
      refine hQ (uf H p 1) nc 1 ⟨fun q hq => ?_, fun q hq hq1 => ?_, i3, i4⟩ (fun r hr => Or.inr ⟨by rw [hu r hr]; exact endL_ne hp, p, uf_s _ _ _, hp.1, (hu r hr).symm⟩) (fun q hq => ?_) id (Or.inr ⟨rfl, zer_uf hp.1 hz⟩)
      · by_cases c : q = p
        · rw [c, uf_s]; exact Or.inr rfl
        · rw [uf_n c]; exact i1 q hq
      · by_cases c : q = p
        · rw [c]; exact ⟨hp, hd⟩
        · rw [uf_n c] at hq1; exact i2 q hq hq1
      · by_cases c : q = p
        · rw [c, uf_s]
        · rw [uf_n c]; exact hq
    · have h1 : H p = 1 := (i1 p hp.1).elim (fun z => absurd z hz) id
      rw [ga_ga, show uf H p 1 = H by rw [← h1, uf_id]]
      exact hQ H nc 0 ⟨i1, i2, i3, i4⟩ (fun r hr => Or.inr ⟨by rw [hu r hr]; exact endL_ne hp, p, h1, hp.1, (hu r hr).symm⟩) (fun q hq => hq) id (Or.inl ⟨rfl, rfl⟩)
  · rw [e3]
    intro hn
    exact hQ H nc 0 ⟨i1, i2, i3, i4⟩ (fun r hr => absurd hr (hn r)) (fun q hq => hq) id (Or.inl ⟨rfl, rfl⟩)
/-- what the first letters' images leave is there -/
def HBase (t : Nat → Int) (m : Int) (H : Nat → Int) (nc : Int) (D : Nat → Nat → Prop) : Prop := ∀ a c : Nat, D a c → (a : Int) < t 0 → (c : Int) < t 0 → a ≠ c → ∀ r, NxR t m (imL t m a) c r → HasR t m H nc r
theorem HBase_mono {t : Nat → Int} {m : Int} {H H' : Nat → Int} {nc nc' : Int} {D : Nat → Nat → Prop} (h : HBase t m H nc D) (h1 : HMono H H') (h2 : nc = 1 → nc' = 1) : HBase t m H' nc' D := fun a c d e f g r hr => HasR_mono (h a c d e f g r hr) h1 h2
theorem NxR_base {t : Nat → Int} {m : Int} {a c : Nat} (ha : (a : Int) < t 0) (hc : (c : Int) < t 0) (hne : a ≠ c) (r : List Int) (h : NxR t m (imL t m a) c r) : Der t m r := by
  have cl := Der_clo t m
  rcases h with e | e
  · exact cl.1 a c r (by omega) ha (by omega) hc (by omega) e
  · exact cl.1 c a r (by omega) hc (by omega) ha (by omega) e
theorem t_cd0 (T0 : TI (g 3)) {m : Int} (h0 : 0 ≤ m ∧ m < g 3 4) {a : Nat} (ha : (a : Int) < g 3 0) (hQ : ∀ H nc u, HInv (g 3) m H nc → HBase (g 3) m H nc (fun x y => x ≤ a) → WP 150 0 96 [vA (some 69), vI m, vI 1, vI a, vI u, vJ] [] (tw b (uf f 75 nc) (ga g 14 H)) Q) : ∀ (j c : Nat) (H : Nat → Int) (nc : Int), (g 3 0 - c).toNat < j → (c : Int) ≤ g 3 0 → HInv (g 3) m H nc → HBase (g 3) m H nc (fun x y => x < a ∨ (x = a ∧ y < c)) → WP 150 0 61 [vA (some 69), vI m, vI 1, vI a, vI c, vJ] [] (tw b (uf f 75 nc) (ga g 14 H)) Q := by
  have p0 := T0.n
  intro j
  induction j with
  | zero => intro c H nc hj; omega
  | succ j ih =>
    intro c H nc hj hc hI hB
    have ml := T0.mLb h0.1 h0.2 (l := a) (by omega) ha
    rw [s150_61]
    simp (disch := first | omega | (simp (disch := omega) only [uf_s, uf_n, ug_s, ug_a, ug_i] <;> omega)) only [s150_63, s150_64, s150_67, s150_68, s150_69, s150_72, s150_73, s150_75, tk_69, tk_70, tk_71, tk_72, tk_73, tk_74, tk_75, tk_76, tk_77, tk_78, tk_79, tk_80, tk_81, tk_82, tk_83, tk_84, tm_thrown, tm_taped, tm_point, tm_begin, tm_size, tm_faultAt, tm_fault, tm_hasLimit, tm_many, tm_acts, tm_tries, tm_foundMany, tm_isCut, tm_wanted, tm_mapNow, tm_isFound, tm_isNoCode, tm_tape, tm_five, tm_told, tm_draft, tm_word, tm_given, tm_past, tm_sizes, tm_begun, tm_row, tm_imaged, tm_counts, tm_sums, tm_hangs, tm_joined, ta_1, ta_2, ta_3, ta_4, ta_5, ta_6, ta_7, ta_8, ta_9, ta_10, ta_11, ta_12, ta_13, ta_14, ta_15, tp_thrown, tp_taped, tp_point, tp_begin, tp_size, tp_faultAt, tp_fault, tp_hasLimit, tp_many, tp_acts, tp_tries, tp_foundMany, tp_isCut, tp_wanted, tp_mapNow, tp_isFound, tp_isNoCode, tq_1, tq_2, tq_3, tq_4, tq_5, tq_6, tq_7, tq_8, tq_9, tq_10, tq_11, tq_12, tq_13, tq_14, tq_15, zh_45_110, zh_46_110, zh_47_110, zh_48_110, zh_49_110, zh_50_110, zh_51_110, zh_52_110, zh_53_110, zh_54_110, zh_55_110, zh_56_110, zh_57_110, zh_58_110, zh_59_110, zh_60_110, zh_61_110, zh_62_110, zh_63_110, zh_64_110, zh_65_110, zh_66_110, zh_67_110, zh_68_110, zh_69_110, zh_70_110, zh_71_110, zh_72_110, zh_73_110, zh_74_110, zh_75_110, zh_76_110, wr_id, wb_id, wc_id, wl_id, zif_true, zif_false, zret_n, zret_v, uf_s, uf_n, ug_s, ug_a, ug_i, uf_uf, uf_sw, uf_id, vI_inj, vA_inj, true_and, and_true, true_or, or_true, false_or, or_false, znc, Nat.reduceEqDiff, Nat.reduceLeDiff, Nat.reduceAdd, zw_n, zw_i, zw_l, zw_a, zb_01, zb_0, zb_n0, zif_not, Int.reduceEq, Int.reduceLE, Int.reduceLT, Int.reduceNeg, Int.reduceAdd, Int.reduceSub, Int.reduceMul, Int.reduceToNat, and_self, zshr_0, ug_ga, ga_s, ga_n, ga_ga, gs_2_1, gs_3_1, gs_3_2, gs_4_1, gs_4_2, gs_4_3, gs_5_1, gs_5_2, gs_5_3, gs_5_4, gs_6_1, gs_6_2, gs_6_3, gs_6_4, gs_6_5, gs_7_1, gs_7_2, gs_7_3, gs_7_4, gs_7_5, gs_7_6, gs_8_1, gs_8_2, gs_8_3, gs_8_4, gs_8_5, gs_8_6, gs_8_7, gs_9_1, gs_9_2, gs_9_3, gs_9_4, gs_9_5, gs_9_6, gs_9_7, gs_9_8, gs_10_1, gs_10_2, gs_10_3, gs_10_4, gs_10_5, gs_10_6, gs_10_7, gs_10_8, gs_10_9, gs_11_1, gs_11_2, gs_11_3, gs_11_4, gs_11_5, gs_11_6, gs_11_7, gs_11_8, gs_11_9, gs_11_10, gs_12_1, gs_12_2, gs_12_3, gs_12_4, gs_12_5, gs_12_6, gs_12_7, gs_12_8, gs_12_9, gs_12_10, gs_12_11, gs_13_1, gs_13_2, gs_13_3, gs_13_4, gs_13_5, gs_13_6, gs_13_7, gs_13_8, gs_13_9, gs_13_10, gs_13_11, gs_13_12, gs_14_1, gs_14_2, gs_14_3, gs_14_4, gs_14_5, gs_14_6, gs_14_7, gs_14_8, gs_14_9, gs_14_10, gs_14_11, gs_14_12, gs_14_13, gs_15_1, gs_15_2, gs_15_3, gs_15_4, gs_15_5, gs_15_6, gs_15_7, gs_15_8, gs_15_9, gs_15_10, gs_15_11, gs_15_12, gs_15_13, gs_15_14]
    refine And.intro (by omega) (zif_in (fun q => ?_) (fun q => ?_))
    · refine zif_in (fun q2 => ?_) (fun q2 => ?_)
      · simp (disch := first | omega | (simp (disch := omega) only [uf_s, uf_n, ug_s, ug_a, ug_i] <;> omega)) only [s150_90, s150_93, tk_69, tk_70, tk_71, tk_72, tk_73, tk_74, tk_75, tk_76, tk_77, tk_78, tk_79, tk_80, tk_81, tk_82, tk_83, tk_84, tm_thrown, tm_taped, tm_point, tm_begin, tm_size, tm_faultAt, tm_fault, tm_hasLimit, tm_many, tm_acts, tm_tries, tm_foundMany, tm_isCut, tm_wanted, tm_mapNow, tm_isFound, tm_isNoCode, tm_tape, tm_five, tm_told, tm_draft, tm_word, tm_given, tm_past, tm_sizes, tm_begun, tm_row, tm_imaged, tm_counts, tm_sums, tm_hangs, tm_joined, ta_1, ta_2, ta_3, ta_4, ta_5, ta_6, ta_7, ta_8, ta_9, ta_10, ta_11, ta_12, ta_13, ta_14, ta_15, tp_thrown, tp_taped, tp_point, tp_begin, tp_size, tp_faultAt, tp_fault, tp_hasLimit, tp_many, tp_acts, tp_tries, tp_foundMany, tp_isCut, tp_wanted, tp_mapNow, tp_isFound, tp_isNoCode, tq_1, tq_2, tq_3, tq_4, tq_5, tq_6, tq_7, tq_8, tq_9, tq_10, tq_11, tq_12, tq_13, tq_14, tq_15, zh_45_110, zh_46_110, zh_47_110, zh_48_110, zh_49_110, zh_50_110, zh_51_110, zh_52_110, zh_53_110, zh_54_110, zh_55_110, zh_56_110, zh_57_110, zh_58_110, zh_59_110, zh_60_110, zh_61_110, zh_62_110, zh_63_110, zh_64_110, zh_65_110, zh_66_110, zh_67_110, zh_68_110, zh_69_110, zh_70_110, zh_71_110, zh_72_110, zh_73_110, zh_74_110, zh_75_110, zh_76_110, wr_id, wb_id, wc_id, wl_id, zif_true, zif_false, zret_n, zret_v, uf_s, uf_n, ug_s, ug_a, ug_i, uf_uf, uf_sw, uf_id, vI_inj, vA_inj, true_and, and_true, true_or, or_true, false_or, or_false, znc, Nat.reduceEqDiff, Nat.reduceLeDiff, Nat.reduceAdd, zw_n, zw_i, zw_l, zw_a, zb_01, zb_0, zb_n0, zif_not, Int.reduceEq, Int.reduceLE, Int.reduceLT, Int.reduceNeg, Int.reduceAdd, Int.reduceSub, Int.reduceMul, Int.reduceToNat, and_self, zshr_0, ug_ga, ga_s, ga_n, ga_ga, gs_2_1, gs_3_1, gs_3_2, gs_4_1, gs_4_2, gs_4_3, gs_5_1, gs_5_2, gs_5_3, gs_5_4, gs_6_1, gs_6_2, gs_6_3, gs_6_4, gs_6_5, gs_7_1, gs_7_2, gs_7_3, gs_7_4, gs_7_5, gs_7_6, gs_8_1, gs_8_2, gs_8_3, gs_8_4, gs_8_5, gs_8_6, gs_8_7, gs_9_1, gs_9_2, gs_9_3, gs_9_4, gs_9_5, gs_9_6, gs_9_7, gs_9_8, gs_10_1, gs_10_2, gs_10_3, gs_10_4, gs_10_5, gs_10_6, gs_10_7, gs_10_8, gs_10_9, gs_11_1, gs_11_2, gs_11_3, gs_11_4, gs_11_5, gs_11_6, gs_11_7, gs_11_8, gs_11_9, gs_11_10, gs_12_1, gs_12_2, gs_12_3, gs_12_4, gs_12_5, gs_12_6, gs_12_7, gs_12_8, gs_12_9, gs_12_10, gs_12_11, gs_13_1, gs_13_2, gs_13_3, gs_13_4, gs_13_5, gs_13_6, gs_13_7, gs_13_8, gs_13_9, gs_13_10, gs_13_11, gs_13_12, gs_14_1, gs_14_2, gs_14_3, gs_14_4, gs_14_5, gs_14_6, gs_14_7, gs_14_8, gs_14_9, gs_14_10, gs_14_11, gs_14_12, gs_14_13, gs_15_1, gs_15_2, gs_15_3, gs_15_4, gs_15_5, gs_15_6, gs_15_7, gs_15_8, gs_15_9, gs_15_10, gs_15_11, gs_15_12, gs_15_13, gs_15_14]
        exact ih (c + 1) H nc (by omega) (by omega) hI (fun x y d e e2 e3 => hB x y (by omega) e e2 e3)
      · simp (disch := first | omega | (simp (disch := omega) only [uf_s, uf_n, ug_s, ug_a, ug_i] <;> omega)) only [s150_78, s150_79, s150_80, s150_81, s150_82, s150_83, s150_85, tk_69, tk_70, tk_71, tk_72, tk_73, tk_74, tk_75, tk_76, tk_77, tk_78, tk_79, tk_80, tk_81, tk_82, tk_83, tk_84, tm_thrown, tm_taped, tm_point, tm_begin, tm_size, tm_faultAt, tm_fault, tm_hasLimit, tm_many, tm_acts, tm_tries, tm_foundMany, tm_isCut, tm_wanted, tm_mapNow, tm_isFound, tm_isNoCode, tm_tape, tm_five, tm_told, tm_draft, tm_word, tm_given, tm_past, tm_sizes, tm_begun, tm_row, tm_imaged, tm_counts, tm_sums, tm_hangs, tm_joined, ta_1, ta_2, ta_3, ta_4, ta_5, ta_6, ta_7, ta_8, ta_9, ta_10, ta_11, ta_12, ta_13, ta_14, ta_15, tp_thrown, tp_taped, tp_point, tp_begin, tp_size, tp_faultAt, tp_fault, tp_hasLimit, tp_many, tp_acts, tp_tries, tp_foundMany, tp_isCut, tp_wanted, tp_mapNow, tp_isFound, tp_isNoCode, tq_1, tq_2, tq_3, tq_4, tq_5, tq_6, tq_7, tq_8, tq_9, tq_10, tq_11, tq_12, tq_13, tq_14, tq_15, zh_45_110, zh_46_110, zh_47_110, zh_48_110, zh_49_110, zh_50_110, zh_51_110, zh_52_110, zh_53_110, zh_54_110, zh_55_110, zh_56_110, zh_57_110, zh_58_110, zh_59_110, zh_60_110, zh_61_110, zh_62_110, zh_63_110, zh_64_110, zh_65_110, zh_66_110, zh_67_110, zh_68_110, zh_69_110, zh_70_110, zh_71_110, zh_72_110, zh_73_110, zh_74_110, zh_75_110, zh_76_110, wr_id, wb_id, wc_id, wl_id, zif_true, zif_false, zret_n, zret_v, uf_s, uf_n, ug_s, ug_a, ug_i, uf_uf, uf_sw, uf_id, vI_inj, vA_inj, true_and, and_true, true_or, or_true, false_or, or_false, znc, Nat.reduceEqDiff, Nat.reduceLeDiff, Nat.reduceAdd, zw_n, zw_i, zw_l, zw_a, zb_01, zb_0, zb_n0, zif_not, Int.reduceEq, Int.reduceLE, Int.reduceLT, Int.reduceNeg, Int.reduceAdd, Int.reduceSub, Int.reduceMul, Int.reduceToNat, and_self, zshr_0, ug_ga, ga_s, ga_n, ga_ga, gs_2_1, gs_3_1, gs_3_2, gs_4_1, gs_4_2, gs_4_3, gs_5_1, gs_5_2, gs_5_3, gs_5_4, gs_6_1, gs_6_2, gs_6_3, gs_6_4, gs_6_5, gs_7_1, gs_7_2, gs_7_3, gs_7_4, gs_7_5, gs_7_6, gs_8_1, gs_8_2, gs_8_3, gs_8_4, gs_8_5, gs_8_6, gs_8_7, gs_9_1, gs_9_2, gs_9_3, gs_9_4, gs_9_5, gs_9_6, gs_9_7, gs_9_8, gs_10_1, gs_10_2, gs_10_3, gs_10_4, gs_10_5, gs_10_6, gs_10_7, gs_10_8, gs_10_9, gs_11_1, gs_11_2, gs_11_3, gs_11_4, gs_11_5, gs_11_6, gs_11_7, gs_11_8, gs_11_9, gs_11_10, gs_12_1, gs_12_2, gs_12_3, gs_12_4, gs_12_5, gs_12_6, gs_12_7, gs_12_8, gs_12_9, gs_12_10, gs_12_11, gs_13_1, gs_13_2, gs_13_3, gs_13_4, gs_13_5, gs_13_6, gs_13_7, gs_13_8, gs_13_9, gs_13_10, gs_13_11, gs_13_12, gs_14_1, gs_14_2, gs_14_3, gs_14_4, gs_14_5, gs_14_6, gs_14_7, gs_14_8, gs_14_9, gs_14_10, gs_14_11, gs_14_12, gs_14_13, gs_15_1, gs_15_2, gs_15_3, gs_15_4, gs_15_5, gs_15_6, gs_15_7, gs_15_8, gs_15_9, gs_15_10, gs_15_11, gs_15_12, gs_15_13, gs_15_14]
        have key := t_ag (b := b) (f := f) (g := g) (Q := zret 150 0 85 88 [vA (some 69), vI m, vI 1, vI a, vI c, vJ] [vI 1] Q) T0 h0 (a := a) (fr := 0) (c := c) ha q (by omega) hI (by rw [List.drop_zero]; exact NxR_base ha q (by omega)) (fun H' nc' ret k1 k2 k3 k4 k5 => ?_)
        · exact key
        · rw [List.drop_zero] at k2
          have e : zor 1 ret = 1 := by rcases k5 with ⟨rfl, _⟩ | ⟨rfl, _⟩; exact zor_10; exact zor_11
          simp (disch := first | omega | (simp (disch := omega) only [uf_s, uf_n, ug_s, ug_a, ug_i] <;> omega)) only [s150_88, s150_89, s150_90, s150_93, tk_69, tk_70, tk_71, tk_72, tk_73, tk_74, tk_75, tk_76, tk_77, tk_78, tk_79, tk_80, tk_81, tk_82, tk_83, tk_84, tm_thrown, tm_taped, tm_point, tm_begin, tm_size, tm_faultAt, tm_fault, tm_hasLimit, tm_many, tm_acts, tm_tries, tm_foundMany, tm_isCut, tm_wanted, tm_mapNow, tm_isFound, tm_isNoCode, tm_tape, tm_five, tm_told, tm_draft, tm_word, tm_given, tm_past, tm_sizes, tm_begun, tm_row, tm_imaged, tm_counts, tm_sums, tm_hangs, tm_joined, ta_1, ta_2, ta_3, ta_4, ta_5, ta_6, ta_7, ta_8, ta_9, ta_10, ta_11, ta_12, ta_13, ta_14, ta_15, tp_thrown, tp_taped, tp_point, tp_begin, tp_size, tp_faultAt, tp_fault, tp_hasLimit, tp_many, tp_acts, tp_tries, tp_foundMany, tp_isCut, tp_wanted, tp_mapNow, tp_isFound, tp_isNoCode, tq_1, tq_2, tq_3, tq_4, tq_5, tq_6, tq_7, tq_8, tq_9, tq_10, tq_11, tq_12, tq_13, tq_14, tq_15, zh_45_110, zh_46_110, zh_47_110, zh_48_110, zh_49_110, zh_50_110, zh_51_110, zh_52_110, zh_53_110, zh_54_110, zh_55_110, zh_56_110, zh_57_110, zh_58_110, zh_59_110, zh_60_110, zh_61_110, zh_62_110, zh_63_110, zh_64_110, zh_65_110, zh_66_110, zh_67_110, zh_68_110, zh_69_110, zh_70_110, zh_71_110, zh_72_110, zh_73_110, zh_74_110, zh_75_110, zh_76_110, wr_id, wb_id, wc_id, wl_id, zif_true, zif_false, zret_n, zret_v, uf_s, uf_n, ug_s, ug_a, ug_i, uf_uf, uf_sw, uf_id, vI_inj, vA_inj, true_and, and_true, true_or, or_true, false_or, or_false, znc, Nat.reduceEqDiff, Nat.reduceLeDiff, Nat.reduceAdd, zw_n, zw_i, zw_l, zw_a, zb_01, zb_0, zb_n0, zif_not, Int.reduceEq, Int.reduceLE, Int.reduceLT, Int.reduceNeg, Int.reduceAdd, Int.reduceSub, Int.reduceMul, Int.reduceToNat, and_self, zshr_0, ug_ga, ga_s, ga_n, ga_ga, gs_2_1, gs_3_1, gs_3_2, gs_4_1, gs_4_2, gs_4_3, gs_5_1, gs_5_2, gs_5_3, gs_5_4, gs_6_1, gs_6_2, gs_6_3, gs_6_4, gs_6_5, gs_7_1, gs_7_2, gs_7_3, gs_7_4, gs_7_5, gs_7_6, gs_8_1, gs_8_2, gs_8_3, gs_8_4, gs_8_5, gs_8_6, gs_8_7, gs_9_1, gs_9_2, gs_9_3, gs_9_4, gs_9_5, gs_9_6, gs_9_7, gs_9_8, gs_10_1, gs_10_2, gs_10_3, gs_10_4, gs_10_5, gs_10_6, gs_10_7, gs_10_8, gs_10_9, gs_11_1, gs_11_2, gs_11_3, gs_11_4, gs_11_5, gs_11_6, gs_11_7, gs_11_8, gs_11_9, gs_11_10, gs_12_1, gs_12_2, gs_12_3, gs_12_4, gs_12_5, gs_12_6, gs_12_7, gs_12_8, gs_12_9, gs_12_10, gs_12_11, gs_13_1, gs_13_2, gs_13_3, gs_13_4, gs_13_5, gs_13_6, gs_13_7, gs_13_8, gs_13_9, gs_13_10, gs_13_11, gs_13_12, gs_14_1, gs_14_2, gs_14_3, gs_14_4, gs_14_5, gs_14_6, gs_14_7, gs_14_8, gs_14_9, gs_14_10, gs_14_11, gs_14_12, gs_14_13, gs_15_1, gs_15_2, gs_15_3, gs_15_4, gs_15_5, gs_15_6, gs_15_7, gs_15_8, gs_15_9, gs_15_10, gs_15_11, gs_15_12, gs_15_13, gs_15_14, e]
          exact ih (c + 1) H' nc' (by omega) (by omega) k1 (fun x y d e e2 e3 => by
            by_cases z : x = a ∧ y = c
            · obtain ⟨rfl, rfl⟩ := z; exact k2
            · exact HBase_mono hB k3 k4 x y (by omega) e e2 e3)
    · exact hQ H nc c hI (fun x y d e e2 e3 => hB x y (by omega) e e2 e3)
theorem t_cd1 (T0 : TI (g 3)) {m : Int} (h0 : 0 ≤ m ∧ m < g 3 4) (hQ : ∀ H nc u v, HInv (g 3) m H nc → HBase (g 3) m H nc (fun _ _ => True) → WP 150 0 102 [vA (some 69), vI m, vI 1, u, v, vJ] [] (tw b (uf f 75 nc) (ga g 14 H)) Q) : ∀ (j a : Nat) (H : Nat → Int) (nc : Int) (u : V), (g 3 0 - a).toNat < j → (a : Int) ≤ g 3 0 → HInv (g 3) m H nc → HBase (g 3) m H nc (fun x y => x < a) → WP 150 0 48 [vA (some 69), vI m, vI 1, vI a, u, vJ] [] (tw b (uf f 75 nc) (ga g 14 H)) Q := by
  have p0 := T0.n
  intro j
  induction j with
  | zero => intro c H nc u hj; omega
  | succ j ih =>
    intro a H nc u hj ha hI hB
    rw [s150_48]
    simp (disch := first | omega | (simp (disch := omega) only [uf_s, uf_n, ug_s, ug_a, ug_i] <;> omega)) only [s150_49, s150_50, s150_53, s150_54, s150_55, s150_58, s150_59, tk_69, tk_70, tk_71, tk_72, tk_73, tk_74, tk_75, tk_76, tk_77, tk_78, tk_79, tk_80, tk_81, tk_82, tk_83, tk_84, tm_thrown, tm_taped, tm_point, tm_begin, tm_size, tm_faultAt, tm_fault, tm_hasLimit, tm_many, tm_acts, tm_tries, tm_foundMany, tm_isCut, tm_wanted, tm_mapNow, tm_isFound, tm_isNoCode, tm_tape, tm_five, tm_told, tm_draft, tm_word, tm_given, tm_past, tm_sizes, tm_begun, tm_row, tm_imaged, tm_counts, tm_sums, tm_hangs, tm_joined, ta_1, ta_2, ta_3, ta_4, ta_5, ta_6, ta_7, ta_8, ta_9, ta_10, ta_11, ta_12, ta_13, ta_14, ta_15, tp_thrown, tp_taped, tp_point, tp_begin, tp_size, tp_faultAt, tp_fault, tp_hasLimit, tp_many, tp_acts, tp_tries, tp_foundMany, tp_isCut, tp_wanted, tp_mapNow, tp_isFound, tp_isNoCode, tq_1, tq_2, tq_3, tq_4, tq_5, tq_6, tq_7, tq_8, tq_9, tq_10, tq_11, tq_12, tq_13, tq_14, tq_15, zh_45_110, zh_46_110, zh_47_110, zh_48_110, zh_49_110, zh_50_110, zh_51_110, zh_52_110, zh_53_110, zh_54_110, zh_55_110, zh_56_110, zh_57_110, zh_58_110, zh_59_110, zh_60_110, zh_61_110, zh_62_110, zh_63_110, zh_64_110, zh_65_110, zh_66_110, zh_67_110, zh_68_110, zh_69_110, zh_70_110, zh_71_110, zh_72_110, zh_73_110, zh_74_110, zh_75_110, zh_76_110, wr_id, wb_id, wc_id, wl_id, zif_true, zif_false, zret_n, zret_v, uf_s, uf_n, ug_s, ug_a, ug_i, uf_uf, uf_sw, uf_id, vI_inj, vA_inj, true_and, and_true, true_or, or_true, false_or, or_false, znc, Nat.reduceEqDiff, Nat.reduceLeDiff, Nat.reduceAdd, zw_n, zw_i, zw_l, zw_a, zb_01, zb_0, zb_n0, zif_not, Int.reduceEq, Int.reduceLE, Int.reduceLT, Int.reduceNeg, Int.reduceAdd, Int.reduceSub, Int.reduceMul, Int.reduceToNat, and_self, zshr_0, ug_ga, ga_s, ga_n, ga_ga, gs_2_1, gs_3_1, gs_3_2, gs_4_1, gs_4_2, gs_4_3, gs_5_1, gs_5_2, gs_5_3, gs_5_4, gs_6_1, gs_6_2, gs_6_3, gs_6_4, gs_6_5, gs_7_1, gs_7_2, gs_7_3, gs_7_4, gs_7_5, gs_7_6, gs_8_1, gs_8_2, gs_8_3, gs_8_4, gs_8_5, gs_8_6, gs_8_7, gs_9_1, gs_9_2, gs_9_3, gs_9_4, gs_9_5, gs_9_6, gs_9_7, gs_9_8, gs_10_1, gs_10_2, gs_10_3, gs_10_4, gs_10_5, gs_10_6, gs_10_7, gs_10_8, gs_10_9, gs_11_1, gs_11_2, gs_11_3, gs_11_4, gs_11_5, gs_11_6, gs_11_7, gs_11_8, gs_11_9, gs_11_10, gs_12_1, gs_12_2, gs_12_3, gs_12_4, gs_12_5, gs_12_6, gs_12_7, gs_12_8, gs_12_9, gs_12_10, gs_12_11, gs_13_1, gs_13_2, gs_13_3, gs_13_4, gs_13_5, gs_13_6, gs_13_7, gs_13_8, gs_13_9, gs_13_10, gs_13_11, gs_13_12, gs_14_1, gs_14_2, gs_14_3, gs_14_4, gs_14_5, gs_14_6, gs_14_7, gs_14_8, gs_14_9, gs_14_10, gs_14_11, gs_14_12, gs_14_13, gs_15_1, gs_15_2, gs_15_3, gs_15_4, gs_15_5, gs_15_6, gs_15_7, gs_15_8, gs_15_9, gs_15_10, gs_15_11, gs_15_12, gs_15_13, gs_15_14]
    refine And.intro (by omega) (zif_in (fun q => ?_) (fun q => ?_))
    · refine t_cd0 T0 h0 q (fun H nc u k1 k2 => ?_) _ 0 H nc (Nat.lt_succ_self _) (by omega) hI (fun x y d e e2 e3 => hB x y (by omega) e e2 e3)
      simp (disch := first | omega | (simp (disch := omega) only [uf_s, uf_n, ug_s, ug_a, ug_i] <;> omega)) only [s150_96, s150_99, tk_69, tk_70, tk_71, tk_72, tk_73, tk_74, tk_75, tk_76, tk_77, tk_78, tk_79, tk_80, tk_81, tk_82, tk_83, tk_84, tm_thrown, tm_taped, tm_point, tm_begin, tm_size, tm_faultAt, tm_fault, tm_hasLimit, tm_many, tm_acts, tm_tries, tm_foundMany, tm_isCut, tm_wanted, tm_mapNow, tm_isFound, tm_isNoCode, tm_tape, tm_five, tm_told, tm_draft, tm_word, tm_given, tm_past, tm_sizes, tm_begun, tm_row, tm_imaged, tm_counts, tm_sums, tm_hangs, tm_joined, ta_1, ta_2, ta_3, ta_4, ta_5, ta_6, ta_7, ta_8, ta_9, ta_10, ta_11, ta_12, ta_13, ta_14, ta_15, tp_thrown, tp_taped, tp_point, tp_begin, tp_size, tp_faultAt, tp_fault, tp_hasLimit, tp_many, tp_acts, tp_tries, tp_foundMany, tp_isCut, tp_wanted, tp_mapNow, tp_isFound, tp_isNoCode, tq_1, tq_2, tq_3, tq_4, tq_5, tq_6, tq_7, tq_8, tq_9, tq_10, tq_11, tq_12, tq_13, tq_14, tq_15, zh_45_110, zh_46_110, zh_47_110, zh_48_110, zh_49_110, zh_50_110, zh_51_110, zh_52_110, zh_53_110, zh_54_110, zh_55_110, zh_56_110, zh_57_110, zh_58_110, zh_59_110, zh_60_110, zh_61_110, zh_62_110, zh_63_110, zh_64_110, zh_65_110, zh_66_110, zh_67_110, zh_68_110, zh_69_110, zh_70_110, zh_71_110, zh_72_110, zh_73_110, zh_74_110, zh_75_110, zh_76_110, wr_id, wb_id, wc_id, wl_id, zif_true, zif_false, zret_n, zret_v, uf_s, uf_n, ug_s, ug_a, ug_i, uf_uf, uf_sw, uf_id, vI_inj, vA_inj, true_and, and_true, true_or, or_true, false_or, or_false, znc, Nat.reduceEqDiff, Nat.reduceLeDiff, Nat.reduceAdd, zw_n, zw_i, zw_l, zw_a, zb_01, zb_0, zb_n0, zif_not, Int.reduceEq, Int.reduceLE, Int.reduceLT, Int.reduceNeg, Int.reduceAdd, Int.reduceSub, Int.reduceMul, Int.reduceToNat, and_self, zshr_0, ug_ga, ga_s, ga_n, ga_ga, gs_2_1, gs_3_1, gs_3_2, gs_4_1, gs_4_2, gs_4_3, gs_5_1, gs_5_2, gs_5_3, gs_5_4, gs_6_1, gs_6_2, gs_6_3, gs_6_4, gs_6_5, gs_7_1, gs_7_2, gs_7_3, gs_7_4, gs_7_5, gs_7_6, gs_8_1, gs_8_2, gs_8_3, gs_8_4, gs_8_5, gs_8_6, gs_8_7, gs_9_1, gs_9_2, gs_9_3, gs_9_4, gs_9_5, gs_9_6, gs_9_7, gs_9_8, gs_10_1, gs_10_2, gs_10_3, gs_10_4, gs_10_5, gs_10_6, gs_10_7, gs_10_8, gs_10_9, gs_11_1, gs_11_2, gs_11_3, gs_11_4, gs_11_5, gs_11_6, gs_11_7, gs_11_8, gs_11_9, gs_11_10, gs_12_1, gs_12_2, gs_12_3, gs_12_4, gs_12_5, gs_12_6, gs_12_7, gs_12_8, gs_12_9, gs_12_10, gs_12_11, gs_13_1, gs_13_2, gs_13_3, gs_13_4, gs_13_5, gs_13_6, gs_13_7, gs_13_8, gs_13_9, gs_13_10, gs_13_11, gs_13_12, gs_14_1, gs_14_2, gs_14_3, gs_14_4, gs_14_5, gs_14_6, gs_14_7, gs_14_8, gs_14_9, gs_14_10, gs_14_11, gs_14_12, gs_14_13, gs_15_1, gs_15_2, gs_15_3, gs_15_4, gs_15_5, gs_15_6, gs_15_7, gs_15_8, gs_15_9, gs_15_10, gs_15_11, gs_15_12, gs_15_13, gs_15_14]
      exact ih (a + 1) H nc _ (by omega) (by omega) k1 (fun x y d e e2 e3 => k2 x y (by omega) e e2 e3)
    · exact hQ H nc _ _ hI (fun x y d e e2 e3 => hB x y (by omega) e e2 e3)
/-- a round: from which table on, what is looked at -/
def HRnd (t : Nat → Int) (m : Int) (H0 H : Nat → Int) (nc more : Int) (D : Nat → Nat → Prop) : Prop := HInv t m H nc ∧ HBase t m H nc (fun _ _ => True) ∧ ((more = 0 ∧ H = H0 ∧ ∀ p c : Nat, D p c → p < 24 → H p = 1 → (c : Int) < t 0 → ∀ r, NxR t m (endL t m p) c r → HasR t m H nc r) ∨ (more = 1 ∧ zer H < zer H0))
theorem HRnd_D {t : Nat → Int} {m : Int} {H0 H : Nat → Int} {nc more : Int} {D D' : Nat → Nat → Prop} (h : HRnd t m H0 H nc more D) (hd : ∀ p c : Nat, D' p c → p < 24 → H p = 1 → (c : Int) < t 0 → D p c) : HRnd t m H0 H nc more D' := by
  obtain ⟨a, b, c⟩ := h
  refine ⟨a, b, ?_⟩
  rcases c with ⟨c1, c2, c3⟩ | c
  · exact Or.inl ⟨c1, c2, fun p c d e f g => c3 p c (hd p c d e f g) e f g⟩
  · exact Or.inr c
theorem t_cr0 (T0 : TI (g 3)) {m : Int} (h0 : 0 ≤ m ∧ m < g 3 4) {H0 : Nat → Int} {a fr : Nat} (ha : (a : Int) < g 3 0) (hf : 1 ≤ fr ∧ (fr : Int) < mL (g 3) m a) (hQ : ∀ H nc more u, HRnd (g 3) m H0 H nc more (fun p c => p < 6 * a + fr + 1) → WP 150 0 192 [vA (some 69), vI m, vI more, vI a, vI fr, u] [] (tw b (uf f 75 nc) (ga g 14 H)) Q) : ∀ (j c : Nat) (H : Nat → Int) (nc more : Int), (g 3 0 - c).toNat < j → (c : Int) ≤ g 3 0 → H (6 * a + fr) = 1 → HRnd (g 3) m H0 H nc more (fun p y => p < 6 * a + fr ∨ (p = 6 * a + fr ∧ y < c)) → WP 150 0 162 [vA (some 69), vI m, vI more, vI a, vI fr, vI c] [] (tw b (uf f 75 nc) (ga g 14 H)) Q := by
  have p0 := T0.n
  intro j
  induction j with
  | zero => intro c H nc more hj; omega
  | succ j ih =>
    intro c H nc more hj hc hh hR
    have ml := T0.mLb h0.1 h0.2 (l := a) (by omega) ha
    rw [s150_162]
    simp (disch := first | omega | (simp (disch := omega) only [uf_s, uf_n, ug_s, ug_a, ug_i] <;> omega)) only [s150_164, s150_165, s150_168, s150_169, s150_170, s150_173, s150_174, s150_175, s150_176, s150_177, s150_179, s150_181, tk_69, tk_70, tk_71, tk_72, tk_73, tk_74, tk_75, tk_76, tk_77, tk_78, tk_79, tk_80, tk_81, tk_82, tk_83, tk_84, tm_thrown, tm_taped, tm_point, tm_begin, tm_size, tm_faultAt, tm_fault, tm_hasLimit, tm_many, tm_acts, tm_tries, tm_foundMany, tm_isCut, tm_wanted, tm_mapNow, tm_isFound, tm_isNoCode, tm_tape, tm_five, tm_told, tm_draft, tm_word, tm_given, tm_past, tm_sizes, tm_begun, tm_row, tm_imaged, tm_counts, tm_sums, tm_hangs, tm_joined, ta_1, ta_2, ta_3, ta_4, ta_5, ta_6, ta_7, ta_8, ta_9, ta_10, ta_11, ta_12, ta_13, ta_14, ta_15, tp_thrown, tp_taped, tp_point, tp_begin, tp_size, tp_faultAt, tp_fault, tp_hasLimit, tp_many, tp_acts, tp_tries, tp_foundMany, tp_isCut, tp_wanted, tp_mapNow, tp_isFound, tp_isNoCode, tq_1, tq_2, tq_3, tq_4, tq_5, tq_6, tq_7, tq_8, tq_9, tq_10, tq_11, tq_12, tq_13, tq_14, tq_15, zh_45_110, zh_46_110, zh_47_110, zh_48_110, zh_49_110, zh_50_110, zh_51_110, zh_52_110, zh_53_110, zh_54_110, zh_55_110, zh_56_110, zh_57_110, zh_58_110, zh_59_110, zh_60_110, zh_61_110, zh_62_110, zh_63_110, zh_64_110, zh_65_110, zh_66_110, zh_67_110, zh_68_110, zh_69_110, zh_70_110, zh_71_110, zh_72_110, zh_73_110, zh_74_110, zh_75_110, zh_76_110, wr_id, wb_id, wc_id, wl_id, zif_true, zif_false, zret_n, zret_v, uf_s, uf_n, ug_s, ug_a, ug_i, uf_uf, uf_sw, uf_id, vI_inj, vA_inj, true_and, and_true, true_or, or_true, false_or, or_false, znc, Nat.reduceEqDiff, Nat.reduceLeDiff, Nat.reduceAdd, zw_n, zw_i, zw_l, zw_a, zb_01, zb_0, zb_n0, zif_not, Int.reduceEq, Int.reduceLE, Int.reduceLT, Int.reduceNeg, Int.reduceAdd, Int.reduceSub, Int.reduceMul, Int.reduceToNat, and_self, zshr_0, ug_ga, ga_s, ga_n, ga_ga, gs_2_1, gs_3_1, gs_3_2, gs_4_1, gs_4_2, gs_4_3, gs_5_1, gs_5_2, gs_5_3, gs_5_4, gs_6_1, gs_6_2, gs_6_3, gs_6_4, gs_6_5, gs_7_1, gs_7_2, gs_7_3, gs_7_4, gs_7_5, gs_7_6, gs_8_1, gs_8_2, gs_8_3, gs_8_4, gs_8_5, gs_8_6, gs_8_7, gs_9_1, gs_9_2, gs_9_3, gs_9_4, gs_9_5, gs_9_6, gs_9_7, gs_9_8, gs_10_1, gs_10_2, gs_10_3, gs_10_4, gs_10_5, gs_10_6, gs_10_7, gs_10_8, gs_10_9, gs_11_1, gs_11_2, gs_11_3, gs_11_4, gs_11_5, gs_11_6, gs_11_7, gs_11_8, gs_11_9, gs_11_10, gs_12_1, gs_12_2, gs_12_3, gs_12_4, gs_12_5, gs_12_6, gs_12_7, gs_12_8, gs_12_9, gs_12_10, gs_12_11, gs_13_1, gs_13_2, gs_13_3, gs_13_4, gs_13_5, gs_13_6, gs_13_7, gs_13_8, gs_13_9, gs_13_10, gs_13_11, gs_13_12, gs_14_1, gs_14_2, gs_14_3, gs_14_4, gs_14_5, gs_14_6, gs_14_7, gs_14_8, gs_14_9, gs_14_10, gs_14_11, gs_14_12, gs_14_13, gs_15_1, gs_15_2, gs_15_3, gs_15_4, gs_15_5, gs_15_6, gs_15_7, gs_15_8, gs_15_9, gs_15_10, gs_15_11, gs_15_12, gs_15_13, gs_15_14]
    refine And.intro (by omega) (zif_in (fun q => ?_) (fun q => ?_))
    · obtain ⟨hI, hB, hm⟩ := hR
      have d1 : (6 * a + fr) / 6 = a := by omega
      have d2 : (6 * a + fr) % 6 = fr := by omega
      have ee : endL (g 3) m (6 * a + fr) = (imL (g 3) m a).drop fr := by unfold endL; rw [d1, d2]
      have hd := (hI.2.1 (6 * a + fr) (by omega) hh).2
      rw [ee] at hd
      have key := t_ag (b := b) (f := f) (g := g) (Q := zret 150 0 181 184 [vA (some 69), vI m, vI more, vI a, vI fr, vI c] [vI more] Q) T0 h0 (a := a) (fr := fr) (c := c) ha q hf.2 hI (fun r hr => (Der_clo (g 3) m).2 _ c r hd (by omega) q hr) (fun H' nc' ret k1 k2 k3 k4 k5 => ?_)
      · exact key
      · have hR' : ∀ mr, (mr = 0 → more = 0 ∧ ret = 0) → (mr = 1 → more = 1 ∨ ret = 1) → (mr = 0 ∨ mr = 1) → HRnd (g 3) m H0 H' nc' mr (fun p y => p < 6 * a + fr ∨ (p = 6 * a + fr ∧ y < c + 1)) := by
          intro mr m0 m1 m01
          refine ⟨k1, HBase_mono hB k3 k4, ?_⟩
          rcases m01 with rfl | rfl
          · obtain ⟨r1, r2⟩ := m0 rfl
            have hH : H' = H := by rcases k5 with ⟨_, e⟩ | ⟨e, _⟩; exact e; omega
            subst hH
            rcases hm with ⟨c1, c2, c3⟩ | ⟨c1, c2⟩
            · refine Or.inl ⟨rfl, c2, fun p y d e e2 e3 => ?_⟩
              by_cases z : p = 6 * a + fr ∧ y = c
              · obtain ⟨rfl, rfl⟩ := z; rw [ee]; exact k2
              · exact fun r hr => HasR_mono (c3 p y (by omega) e e2 e3 r hr) (fun _ x => x) k4
            · omega
          · refine Or.inr ⟨rfl, ?_⟩
            rcases hm with ⟨c1, c2, c3⟩ | ⟨c1, c2⟩
            · rcases k5 with ⟨e1, e2⟩ | ⟨e1, e2⟩
              · have := m1 rfl; omega
              · rw [← c2]; exact e2
            · rcases k5 with ⟨e1, e2⟩ | ⟨e1, e2⟩
              · rw [e2]; exact c2
              · omega
        have hm01 : more = 0 ∨ more = 1 := by rcases hm with ⟨c1, _⟩ | ⟨c1, _⟩; exact Or.inl c1; exact Or.inr c1
        have hr01 : ret = 0 ∨ ret = 1 := by rcases k5 with ⟨c1, _⟩ | ⟨c1, _⟩; exact Or.inl c1; exact Or.inr c1
        have fin : ∀ mr, zor more ret = mr → (mr = 0 → more = 0 ∧ ret = 0) → (mr = 1 → more = 1 ∨ ret = 1) → (mr = 0 ∨ mr = 1) → zret 150 0 181 184 [vA (some 69), vI m, vI more, vI a, vI fr, vI c] [vI more] Q (.inl (some (vI ret))) (tw b (uf f 75 nc') (ga g 14 H')) := by
          intro mr e m0 m1 m01
          simp (disch := first | omega | (simp (disch := omega) only [uf_s, uf_n, ug_s, ug_a, ug_i] <;> omega)) only [s150_184, s150_185, s150_186, s150_189, tk_69, tk_70, tk_71, tk_72, tk_73, tk_74, tk_75, tk_76, tk_77, tk_78, tk_79, tk_80, tk_81, tk_82, tk_83, tk_84, tm_thrown, tm_taped, tm_point, tm_begin, tm_size, tm_faultAt, tm_fault, tm_hasLimit, tm_many, tm_acts, tm_tries, tm_foundMany, tm_isCut, tm_wanted, tm_mapNow, tm_isFound, tm_isNoCode, tm_tape, tm_five, tm_told, tm_draft, tm_word, tm_given, tm_past, tm_sizes, tm_begun, tm_row, tm_imaged, tm_counts, tm_sums, tm_hangs, tm_joined, ta_1, ta_2, ta_3, ta_4, ta_5, ta_6, ta_7, ta_8, ta_9, ta_10, ta_11, ta_12, ta_13, ta_14, ta_15, tp_thrown, tp_taped, tp_point, tp_begin, tp_size, tp_faultAt, tp_fault, tp_hasLimit, tp_many, tp_acts, tp_tries, tp_foundMany, tp_isCut, tp_wanted, tp_mapNow, tp_isFound, tp_isNoCode, tq_1, tq_2, tq_3, tq_4, tq_5, tq_6, tq_7, tq_8, tq_9, tq_10, tq_11, tq_12, tq_13, tq_14, tq_15, zh_45_110, zh_46_110, zh_47_110, zh_48_110, zh_49_110, zh_50_110, zh_51_110, zh_52_110, zh_53_110, zh_54_110, zh_55_110, zh_56_110, zh_57_110, zh_58_110, zh_59_110, zh_60_110, zh_61_110, zh_62_110, zh_63_110, zh_64_110, zh_65_110, zh_66_110, zh_67_110, zh_68_110, zh_69_110, zh_70_110, zh_71_110, zh_72_110, zh_73_110, zh_74_110, zh_75_110, zh_76_110, wr_id, wb_id, wc_id, wl_id, zif_true, zif_false, zret_n, zret_v, uf_s, uf_n, ug_s, ug_a, ug_i, uf_uf, uf_sw, uf_id, vI_inj, vA_inj, true_and, and_true, true_or, or_true, false_or, or_false, znc, Nat.reduceEqDiff, Nat.reduceLeDiff, Nat.reduceAdd, zw_n, zw_i, zw_l, zw_a, zb_01, zb_0, zb_n0, zif_not, Int.reduceEq, Int.reduceLE, Int.reduceLT, Int.reduceNeg, Int.reduceAdd, Int.reduceSub, Int.reduceMul, Int.reduceToNat, and_self, zshr_0, ug_ga, ga_s, ga_n, ga_ga, gs_2_1, gs_3_1, gs_3_2, gs_4_1, gs_4_2, gs_4_3, gs_5_1, gs_5_2, gs_5_3, gs_5_4, gs_6_1, gs_6_2, gs_6_3, gs_6_4, gs_6_5, gs_7_1, gs_7_2, gs_7_3, gs_7_4, gs_7_5, gs_7_6, gs_8_1, gs_8_2, gs_8_3, gs_8_4, gs_8_5, gs_8_6, gs_8_7, gs_9_1, gs_9_2, gs_9_3, gs_9_4, gs_9_5, gs_9_6, gs_9_7, gs_9_8, gs_10_1, gs_10_2, gs_10_3, gs_10_4, gs_10_5, gs_10_6, gs_10_7, gs_10_8, gs_10_9, gs_11_1, gs_11_2, gs_11_3, gs_11_4, gs_11_5, gs_11_6, gs_11_7, gs_11_8, gs_11_9, gs_11_10, gs_12_1, gs_12_2, gs_12_3, gs_12_4, gs_12_5, gs_12_6, gs_12_7, gs_12_8, gs_12_9, gs_12_10, gs_12_11, gs_13_1, gs_13_2, gs_13_3, gs_13_4, gs_13_5, gs_13_6, gs_13_7, gs_13_8, gs_13_9, gs_13_10, gs_13_11, gs_13_12, gs_14_1, gs_14_2, gs_14_3, gs_14_4, gs_14_5, gs_14_6, gs_14_7, gs_14_8, gs_14_9, gs_14_10, gs_14_11, gs_14_12, gs_14_13, gs_15_1, gs_15_2, gs_15_3, gs_15_4, gs_15_5, gs_15_6, gs_15_7, gs_15_8, gs_15_9, gs_15_10, gs_15_11, gs_15_12, gs_15_13, gs_15_14, e]
          exact ih (c + 1) H' nc' mr (by omega) (by omega) (k3 _ hh) (hR' mr m0 m1 m01)
        rcases hm01 with rfl | rfl <;> rcases hr01 with rfl | rfl
        · exact fin 0 zor_00 (fun _ => ⟨rfl, rfl⟩) (fun z => by omega) (Or.inl rfl)
        · exact fin 1 zor_01 (fun z => by omega) (fun _ => Or.inr rfl) (Or.inr rfl)
        · exact fin 1 zor_10 (fun z => by omega) (fun _ => Or.inl rfl) (Or.inr rfl)
        · exact fin 1 zor_11 (fun z => by omega) (fun _ => Or.inl rfl) (Or.inr rfl)
    · exact hQ H nc more _ (HRnd_D hR (fun p y d e e2 e3 => by omega))
end
