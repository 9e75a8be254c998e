/-! Runs: plain, and the reference's walk. -/
def IsRun (w : Nat → Int) (m i n p : Int) : Prop := (0 ≤ i ∧ 1 ≤ p ∧ 2 * p ≤ n ∧ i + n ≤ m) ∧ IsPer w i n p ∧ (i = 0 ∨ w (i - 1).toNat ≠ w (i - 1 + p).toNat) ∧ (i + n = m ∨ w (i + n).toNat ≠ w (i + n - p).toNat) ∧ per w i n = p
def runLt (x y : Int × Int × Int) : Prop := x.1 < y.1 ∨ (x.1 = y.1 ∧ x.2.2 < y.2.2)
def RunL (w : Nat → Int) (m : Int) (L : List (Int × Int × Int)) : Prop := L.Pairwise runLt ∧ ∀ x, x ∈ L ↔ IsRun w m x.1 x.2.1 x.2.2
def pickR (L : List (Int × Int × Int)) (k x : Int) : Int := if k = -1 then L.length else if 0 ≤ k then (match L[k.toNat]? with
  | some r => if x = 0 then r.1 else if x = 1 then r.2.1 else r.2.2
  | none => -1) else -1
theorem runLt_as {x y : Int × Int × Int} (h : runLt x y) : ¬ runLt y x := by unfold runLt at *; omega
theorem srt_u {α : Type} {lt : α → α → Prop} (as : ∀ a b, lt a b → ¬ lt b a) : ∀ L L' : List α, L.Pairwise lt → L'.Pairwise lt → (∀ x, x ∈ L ↔ x ∈ L') → L = L'
  | [], [], _, _, _ => rfl
  | [], y :: L', _, _, h => absurd ((h y).mpr (List.mem_cons_self ..)) (fun z => by cases z)
  | x :: L, [], _, _, h => absurd ((h x).mp (List.mem_cons_self ..)) (fun z => by cases z)
  | x :: L, y :: L', h1, h2, h => by
    rw [List.pairwise_cons] at h1 h2
    have e : x = y := by
      refine Classical.byContradiction (fun n => ?_)
      have a1 : x ∈ L' := by
        rcases List.mem_cons.mp ((h x).mp (List.mem_cons_self ..)) with z | z
        · exact absurd z n
        · exact z
      have a2 : y ∈ L := by
        rcases List.mem_cons.mp ((h y).mpr (List.mem_cons_self ..)) with z | z
        · exact absurd z.symm n
        · exact z
      exact as _ _ (h1.1 y a2) (h2.1 x a1)
    subst e
    rw [srt_u as L L' h1.2 h2.2 (fun z => by
      constructor
      · intro hz
        rcases List.mem_cons.mp ((h z).mp (List.mem_cons_of_mem _ hz)) with q | q
        · subst q; exact absurd (h1.1 z hz) (fun q => as _ _ q q)
        · exact q
      · intro hz
        rcases List.mem_cons.mp ((h z).mpr (List.mem_cons_of_mem _ hz)) with q | q
        · subst q; exact absurd (h2.1 z hz) (fun q => as _ _ q q)
        · exact q)]
theorem RunL_u {w : Nat → Int} {m : Int} {L L' : List (Int × Int × Int)} (h : RunL w m L) (h' : RunL w m L') : L = L' := srt_u (fun _ _ => runLt_as) L L' h.1 h'.1 (fun x => (h.2 x).trans (h'.2 x).symm)
theorem IsRun_n {w : Nat → Int} {m i n n' p : Int} (h : IsRun w m i n p) (h' : IsRun w m i n' p) : n = n' := by
  obtain ⟨⟨a1, a2, a3, a4⟩, a5, a6, a7, a8⟩ := h
  obtain ⟨⟨b1, b2, b3, b4⟩, b5, b6, b7, b8⟩ := h'
  rcases Int.lt_trichotomy n n' with z | z | z
  · exact absurd (b5 n (by omega) z) (a7.elim (fun q => by omega) id)
  · exact z
  · exact absurd (a5 n' (by omega) z) (b7.elim (fun q => by omega) id)
/-- what is looked at ahead of a place and a period -/
def runD (i p : Int) (x : Int × Int × Int) : Prop := x.1 < i ∨ (x.1 = i ∧ x.2.2 < p)
/-- the runs split there -/
def RunS (i p : Int) (L L0 R : List (Int × Int × Int)) : Prop := L = L0 ++ R ∧ (∀ x ∈ L0, runD i p x) ∧ ∀ x ∈ R, ¬ runD i p x
theorem RunS_no {w : Nat → Int} {m i p : Int} {L L0 R : List (Int × Int × Int)} (hL : RunL w m L) (h : RunS i p L L0 R) (hn : ∀ n, ¬ IsRun w m i n p) : RunS i (p + 1) L L0 R := by
  obtain ⟨e, h1, h2⟩ := h
  refine ⟨e, fun x hx => ?_, fun x hx z => ?_⟩
  · have := h1 x hx; unfold runD at *; omega
  · have q := h2 x hx
    have hr := (hL.2 x).mp (by rw [e]; exact List.mem_append_right _ hx)
    have e1 : x.1 = i ∧ x.2.2 = p := by unfold runD at *; omega
    rw [e1.1, e1.2] at hr
    exact hn _ hr
theorem RunS_end {w : Nat → Int} {m i p : Int} {L L0 R : List (Int × Int × Int)} (hL : RunL w m L) (h : RunS i p L L0 R) (hp : m - i < 2 * p) : RunS (i + 1) 1 L L0 R := by
  obtain ⟨e, h1, h2⟩ := h
  refine ⟨e, fun x hx => ?_, fun x hx z => ?_⟩
  · have := h1 x hx; unfold runD at *; omega
  · have q := h2 x hx
    have hr := ((hL.2 x).mp (by rw [e]; exact List.mem_append_right _ hx)).1
    unfold runD at *; omega
theorem RunS_yes {w : Nat → Int} {m i p n : Int} {L L0 R : List (Int × Int × Int)} (hL : RunL w m L) (h : RunS i p L L0 R) (hr : IsRun w m i n p) : ∃ R', R = (i, n, p) :: R' ∧ RunS i (p + 1) L (L0 ++ [(i, n, p)]) R' := by
  obtain ⟨e, h1, h2⟩ := h
  have hx : (i, n, p) ∈ L := (hL.2 (i, n, p)).mpr hr
  rw [e] at hx
  rcases List.mem_append.mp hx with z | z
  · exact absurd (h1 _ z) (by unfold runD; show ¬ (i < i ∨ (i = i ∧ p < p)); omega)
  · cases R with
    | nil => cases z
    | cons y R' =>
      have hp := hL.1
      rw [e, List.pairwise_append] at hp
      have hp2 := List.pairwise_cons.mp hp.2.1
      have ey : y = (i, n, p) := by
        rcases List.mem_cons.mp z with q | q
        · exact q.symm
        · have l := hp2.1 _ q
          exact absurd (h2 y (List.mem_cons_self ..)) (fun k => k (by unfold runLt at l; unfold runD; exact l))
      subst ey
      refine ⟨R', rfl, by rw [e]; simp, fun x hx => ?_, fun x hx q => ?_⟩
      · rcases List.mem_append.mp hx with k | k
        · have := h1 x k; unfold runD at *; omega
        · rw [List.mem_singleton.mp k]; exact Or.inr ⟨rfl, by show p < p + 1; omega⟩
      · have l := hp2.1 x hx
        unfold runLt at l
        unfold runD at q
        have l : i < x.1 ∨ (i = x.1 ∧ p < x.2.2) := l
        omega
/-- there are runs in order -/
theorem Run_ex1 {w : Nat → Int} {m i : Int} {L0 : List (Int × Int × Int)} (h0 : L0.Pairwise runLt ∧ ∀ x, x ∈ L0 ↔ (IsRun w m x.1 x.2.1 x.2.2 ∧ runD i 1 x)) : ∀ k : Nat, ∃ L : List (Int × Int × Int), L.Pairwise runLt ∧ ∀ x, x ∈ L ↔ (IsRun w m x.1 x.2.1 x.2.2 ∧ runD i (1 + k) x) := by
  intro k
  induction k with
  | zero => exact ⟨L0, h0⟩
  | succ k ih =>
    obtain ⟨L, hL, hm⟩ := ih
    by_cases c : ∃ n, IsRun w m i n (1 + k)
    · obtain ⟨n, hn⟩ := c
      refine ⟨L ++ [(i, n, 1 + (k : Int))], ?_, fun x => ?_⟩
      · rw [List.pairwise_append]
        refine ⟨hL, List.pairwise_singleton _ _, fun x hx y hy => ?_⟩
        rw [List.mem_singleton.mp hy]
        exact ((hm x).mp hx).2
      · rw [List.mem_append, List.mem_singleton, hm]
        constructor
        · rintro (⟨a, c⟩ | rfl)
          · exact ⟨a, by unfold runD at *; omega⟩
          · exact ⟨hn, Or.inr ⟨rfl, by show (1 + k : Int) < 1 + (k + 1 : Nat); omega⟩⟩
        · rintro ⟨a, c⟩
          by_cases q : x.1 = i ∧ x.2.2 = 1 + k
          · right
            obtain ⟨x1, x2, x3⟩ := x
            obtain ⟨rfl, rfl⟩ := q
            rw [show x2 = n from IsRun_n a hn]
          · exact Or.inl ⟨a, by unfold runD at *; omega⟩
    · refine ⟨L, hL, fun x => ?_⟩
      rw [hm]
      constructor
      · rintro ⟨a, c⟩
        exact ⟨a, by unfold runD at *; omega⟩
      · rintro ⟨a, d⟩
        refine ⟨a, ?_⟩
        by_cases q : x.1 = i ∧ x.2.2 = 1 + k
        · rw [q.1, q.2] at a; exact absurd ⟨_, a⟩ c
        · unfold runD at *; omega
theorem Run_ex0 (w : Nat → Int) (m : Int) : ∀ k : Nat, ∃ L : List (Int × Int × Int), L.Pairwise runLt ∧ ∀ x, x ∈ L ↔ (IsRun w m x.1 x.2.1 x.2.2 ∧ runD k 1 x) := by
  intro k
  induction k with
  | zero => exact ⟨[], List.Pairwise.nil, fun x => ⟨fun z => (by cases z), fun z => (by have := z.1.1; have := z.2; unfold runD at *; omega)⟩⟩
  | succ k ih =>
    obtain ⟨L0, h0⟩ := ih
    obtain ⟨L, h1, h2⟩ := Run_ex1 h0 m.toNat
    refine ⟨L, h1, fun x => ?_⟩
    rw [h2]
    constructor
    · rintro ⟨a, c⟩
      exact ⟨a, by have := a.1; unfold runD at *; omega⟩
    · rintro ⟨a, c⟩
      exact ⟨a, by have := a.1; unfold runD at *; omega⟩
theorem Run_ex (w : Nat → Int) (m : Int) : ∃ L, RunL w m L := by
  obtain ⟨L, h1, h2⟩ := Run_ex0 w m m.toNat
  exact ⟨L, h1, fun x => by
    rw [h2]
    exact ⟨fun z => z.1, fun z => ⟨z, by have := z.1; unfold runD; omega⟩⟩⟩
section
variable {b : MH} {f : Nat → Int} {g : Nat → Nat → Int} {Q : ZO → MH → Prop}
theorem t_runAt0 {i p : Int} (h : f 59 ≤ 64) (h0 : 0 ≤ i) (hp : 1 ≤ p) (hQ : ∀ n, p ≤ n → i + n ≤ f 59 → IsPer (g 5) i n p → (i + n = f 59 ∨ g 5 (i + n).toNat ≠ g 5 (i + n - p).toNat) → WP 240 0 78 [vA (some 69), vI i, vI p, vI n] [] (tw b f g) Q) : ∀ (m : Nat) (n : Int), (f 59 - i - n).toNat < m → p ≤ n → i + n ≤ f 59 → IsPer (g 5) i n p → WP 240 0 41 [vA (some 69), vI i, vI p, vI n] [] (tw b f g) Q := by
  intro m
  induction m with
  | zero => intro n hk; omega
  | succ m ih =>
    intro n hk n0 n1 hP
    rw [s240_41]
    simp (disch := first | omega | (simp (disch := omega) only [uf_s, uf_n, ug_s, ug_a, ug_i] <;> omega)) only [s240_42, s240_43, s240_44, s240_45, s240_48, s240_51, s240_52, s240_55, s240_56, s240_57, s240_58, s240_59, s240_60, s240_63, s240_64, s240_65, s240_66, s240_67, s240_68, s240_69, s240_72, s240_75, tk_69, tk_70, tk_71, tk_72, tk_73, tk_74, tk_75, tk_76, tk_77, tk_78, tk_79, tk_80, tk_81, tk_82, tk_83, tk_84, tm_thrown, tm_taped, tm_point, tm_begin, tm_size, tm_faultAt, tm_fault, tm_hasLimit, tm_many, tm_acts, tm_tries, tm_foundMany, tm_isCut, tm_wanted, tm_mapNow, tm_isFound, tm_isNoCode, tm_tape, tm_five, tm_told, tm_draft, tm_word, tm_given, tm_past, tm_sizes, tm_begun, tm_row, tm_imaged, tm_counts, tm_sums, tm_hangs, tm_joined, ta_1, ta_2, ta_3, ta_4, ta_5, ta_6, ta_7, ta_8, ta_9, ta_10, ta_11, ta_12, ta_13, ta_14, ta_15, tp_thrown, tp_taped, tp_point, tp_begin, tp_size, tp_faultAt, tp_fault, tp_hasLimit, tp_many, tp_acts, tp_tries, tp_foundMany, tp_isCut, tp_wanted, tp_mapNow, tp_isFound, tp_isNoCode, tq_1, tq_2, tq_3, tq_4, tq_5, tq_6, tq_7, tq_8, tq_9, tq_10, tq_11, tq_12, tq_13, tq_14, tq_15, zh_45_110, zh_46_110, zh_47_110, zh_48_110, zh_49_110, zh_50_110, zh_51_110, zh_52_110, zh_53_110, zh_54_110, zh_55_110, zh_56_110, zh_57_110, zh_58_110, zh_59_110, zh_60_110, zh_61_110, zh_62_110, zh_63_110, zh_64_110, zh_65_110, zh_66_110, zh_67_110, zh_68_110, zh_69_110, zh_70_110, zh_71_110, zh_72_110, zh_73_110, zh_74_110, zh_75_110, zh_76_110, wr_id, wb_id, wc_id, wl_id, zif_true, zif_false, zret_n, zret_v, uf_s, uf_n, ug_s, ug_a, ug_i, uf_uf, uf_sw, uf_id, vI_inj, vA_inj, true_and, and_true, true_or, or_true, false_or, or_false, znc, Nat.reduceEqDiff, Nat.reduceLeDiff, Nat.reduceAdd, zw_n, zw_i, zw_l, zw_a, zb_01, zb_0, zb_n0, zif_not, Int.reduceEq, Int.reduceLE, Int.reduceLT, Int.reduceNeg, Int.reduceAdd, Int.reduceSub, Int.reduceMul, Int.reduceToNat, and_self, zshr_0]
    refine zif_in (fun q => And.intro (by omega) (And.intro (by omega) (zif_in (fun c2 => ?_) (fun c2 => ?_)))) (fun q => ?_)
    · exact ih (n + 1) (by omega) (by omega) (by omega) (fun k k0 k1 => by
        rcases Int.lt_or_eq_of_le (Int.lt_add_one_iff.mp k1) with z | rfl
        · exact hP k k0 z
        · exact c2)
    · exact hQ n n0 n1 hP (Or.inr c2)
    · exact hQ n n0 n1 hP (Or.inl (by omega))
theorem t_runAt {i p : Int} (h : f 59 ≤ 64) (h0 : 0 ≤ i) (hp : 1 ≤ p) (hp2 : 2 * p ≤ f 59 - i) (hQ1 : ∀ n, IsRun (g 5) (f 59) i n p → Q (.inl (some (vI n))) (tw b f g)) (hQ0 : (∀ n, ¬ IsRun (g 5) (f 59) i n p) → Q (.inl (some (vI 0))) (tw b f g)) : WP 240 0 0 [vA (some 69), vI i, vI p, vJ] [] (tw b f g) Q := by
  have main : (i = 0 ∨ g 5 (i - 1).toNat ≠ g 5 (i - 1 + p).toNat) → WP 240 0 41 [vA (some 69), vI i, vI p, vI p] [] (tw b f g) Q := by
    intro hl
    refine t_runAt0 h h0 hp (fun n n0 n1 hP hm => ?_) _ p (Nat.lt_succ_self _) (Int.le_refl _) (by omega) (fun k k0 k1 => by omega)
    simp (disch := first | omega | (simp (disch := omega) only [uf_s, uf_n, ug_s, ug_a, ug_i] <;> omega)) only [s240_78, s240_79, s240_80, s240_81, s240_82, s240_85, s240_86, s240_87, s240_88, s240_91, s240_92, s240_95, s240_96, s240_99, s240_100, tk_69, tk_70, tk_71, tk_72, tk_73, tk_74, tk_75, tk_76, tk_77, tk_78, tk_79, tk_80, tk_81, tk_82, tk_83, tk_84, tm_thrown, tm_taped, tm_point, tm_begin, tm_size, tm_faultAt, tm_fault, tm_hasLimit, tm_many, tm_acts, tm_tries, tm_foundMany, tm_isCut, tm_wanted, tm_mapNow, tm_isFound, tm_isNoCode, tm_tape, tm_five, tm_told, tm_draft, tm_word, tm_given, tm_past, tm_sizes, tm_begun, tm_row, tm_imaged, tm_counts, tm_sums, tm_hangs, tm_joined, ta_1, ta_2, ta_3, ta_4, ta_5, ta_6, ta_7, ta_8, ta_9, ta_10, ta_11, ta_12, ta_13, ta_14, ta_15, tp_thrown, tp_taped, tp_point, tp_begin, tp_size, tp_faultAt, tp_fault, tp_hasLimit, tp_many, tp_acts, tp_tries, tp_foundMany, tp_isCut, tp_wanted, tp_mapNow, tp_isFound, tp_isNoCode, tq_1, tq_2, tq_3, tq_4, tq_5, tq_6, tq_7, tq_8, tq_9, tq_10, tq_11, tq_12, tq_13, tq_14, tq_15, zh_45_110, zh_46_110, zh_47_110, zh_48_110, zh_49_110, zh_50_110, zh_51_110, zh_52_110, zh_53_110, zh_54_110, zh_55_110, zh_56_110, zh_57_110, zh_58_110, zh_59_110, zh_60_110, zh_61_110, zh_62_110, zh_63_110, zh_64_110, zh_65_110, zh_66_110, zh_67_110, zh_68_110, zh_69_110, zh_70_110, zh_71_110, zh_72_110, zh_73_110, zh_74_110, zh_75_110, zh_76_110, wr_id, wb_id, wc_id, wl_id, zif_true, zif_false, zret_n, zret_v, uf_s, uf_n, ug_s, ug_a, ug_i, uf_uf, uf_sw, uf_id, vI_inj, vA_inj, true_and, and_true, true_or, or_true, false_or, or_false, znc, Nat.reduceEqDiff, Nat.reduceLeDiff, Nat.reduceAdd, zw_n, zw_i, zw_l, zw_a, zb_01, zb_0, zb_n0, zif_not, Int.reduceEq, Int.reduceLE, Int.reduceLT, Int.reduceNeg, Int.reduceAdd, Int.reduceSub, Int.reduceMul, Int.reduceToNat, and_self, zshr_0]
    have no : ¬ (2 * p ≤ n ∧ per (g 5) i n = p) → Q (.inl (some (vI 0))) (tw b f g) := by
      intro z
      refine hQ0 (fun n' hr => z ?_)
      have e : n = n' := by
        obtain ⟨⟨a1, a2, a3, a4⟩, a5, a6, a7, a8⟩ := hr
        rcases Int.lt_trichotomy n n' with z | z | z
        · exact absurd (a5 n (by omega) z) (hm.elim (fun q => by omega) id)
        · exact z
        · exact absurd (hP n' (by omega) z) (a7.elim (fun q => by omega) id)
      subst e
      exact ⟨hr.1.2.2.1, hr.2.2.2.2⟩
    refine zif_in (fun q => no (fun z => by omega)) (fun q => ?_)
    rw [t_periodOf h0 (by omega) (by omega)]
    simp (disch := first | omega | (simp (disch := omega) only [uf_s, uf_n, ug_s, ug_a, ug_i] <;> omega)) only [s240_91, s240_92, s240_95, s240_96, s240_99, s240_100, tk_69, tk_70, tk_71, tk_72, tk_73, tk_74, tk_75, tk_76, tk_77, tk_78, tk_79, tk_80, tk_81, tk_82, tk_83, tk_84, tm_thrown, tm_taped, tm_point, tm_begin, tm_size, tm_faultAt, tm_fault, tm_hasLimit, tm_many, tm_acts, tm_tries, tm_foundMany, tm_isCut, tm_wanted, tm_mapNow, tm_isFound, tm_isNoCode, tm_tape, tm_five, tm_told, tm_draft, tm_word, tm_given, tm_past, tm_sizes, tm_begun, tm_row, tm_imaged, tm_counts, tm_sums, tm_hangs, tm_joined, ta_1, ta_2, ta_3, ta_4, ta_5, ta_6, ta_7, ta_8, ta_9, ta_10, ta_11, ta_12, ta_13, ta_14, ta_15, tp_thrown, tp_taped, tp_point, tp_begin, tp_size, tp_faultAt, tp_fault, tp_hasLimit, tp_many, tp_acts, tp_tries, tp_foundMany, tp_isCut, tp_wanted, tp_mapNow, tp_isFound, tp_isNoCode, tq_1, tq_2, tq_3, tq_4, tq_5, tq_6, tq_7, tq_8, tq_9, tq_10, tq_11, tq_12, tq_13, tq_14, tq_15, zh_45_110, zh_46_110, zh_47_110, zh_48_110, zh_49_110, zh_50_110, zh_51_110, zh_52_110, zh_53_110, zh_54_110, zh_55_110, zh_56_110, zh_57_110, zh_58_110, zh_59_110, zh_60_110, zh_61_110, zh_62_110, zh_63_110, zh_64_110, zh_65_110, zh_66_110, zh_67_110, zh_68_110, zh_69_110, zh_70_110, zh_71_110, zh_72_110, zh_73_110, zh_74_110, zh_75_110, zh_76_110, wr_id, wb_id, wc_id, wl_id, zif_true, zif_false, zret_n, zret_v, uf_s, uf_n, ug_s, ug_a, ug_i, uf_uf, uf_sw, uf_id, vI_inj, vA_inj, true_and, and_true, true_or, or_true, false_or, or_false, znc, Nat.reduceEqDiff, Nat.reduceLeDiff, Nat.reduceAdd, zw_n, zw_i, zw_l, zw_a, zb_01, zb_0, zb_n0, zif_not, Int.reduceEq, Int.reduceLE, Int.reduceLT, Int.reduceNeg, Int.reduceAdd, Int.reduceSub, Int.reduceMul, Int.reduceToNat, and_self, zshr_0]
    refine zif_in (fun q2 => ?_) (fun q2 => no (fun z => q2 z.2))
    exact hQ1 n ⟨⟨h0, hp, by omega, n1⟩, hP, hl, hm, q2⟩
  simp (disch := first | omega | (simp (disch := omega) only [uf_s, uf_n, ug_s, ug_a, ug_i] <;> omega)) only [s240_0, s240_1, s240_4, s240_5, s240_6, s240_7, s240_8, s240_9, s240_10, s240_13, s240_16, s240_17, s240_20, s240_21, s240_22, s240_23, s240_24, s240_25, s240_28, s240_29, s240_30, s240_31, s240_32, s240_33, s240_34, s240_37, s240_38, s240_39, s240_40, tk_69, tk_70, tk_71, tk_72, tk_73, tk_74, tk_75, tk_76, tk_77, tk_78, tk_79, tk_80, tk_81, tk_82, tk_83, tk_84, tm_thrown, tm_taped, tm_point, tm_begin, tm_size, tm_faultAt, tm_fault, tm_hasLimit, tm_many, tm_acts, tm_tries, tm_foundMany, tm_isCut, tm_wanted, tm_mapNow, tm_isFound, tm_isNoCode, tm_tape, tm_five, tm_told, tm_draft, tm_word, tm_given, tm_past, tm_sizes, tm_begun, tm_row, tm_imaged, tm_counts, tm_sums, tm_hangs, tm_joined, ta_1, ta_2, ta_3, ta_4, ta_5, ta_6, ta_7, ta_8, ta_9, ta_10, ta_11, ta_12, ta_13, ta_14, ta_15, tp_thrown, tp_taped, tp_point, tp_begin, tp_size, tp_faultAt, tp_fault, tp_hasLimit, tp_many, tp_acts, tp_tries, tp_foundMany, tp_isCut, tp_wanted, tp_mapNow, tp_isFound, tp_isNoCode, tq_1, tq_2, tq_3, tq_4, tq_5, tq_6, tq_7, tq_8, tq_9, tq_10, tq_11, tq_12, tq_13, tq_14, tq_15, zh_45_110, zh_46_110, zh_47_110, zh_48_110, zh_49_110, zh_50_110, zh_51_110, zh_52_110, zh_53_110, zh_54_110, zh_55_110, zh_56_110, zh_57_110, zh_58_110, zh_59_110, zh_60_110, zh_61_110, zh_62_110, zh_63_110, zh_64_110, zh_65_110, zh_66_110, zh_67_110, zh_68_110, zh_69_110, zh_70_110, zh_71_110, zh_72_110, zh_73_110, zh_74_110, zh_75_110, zh_76_110, wr_id, wb_id, wc_id, wl_id, zif_true, zif_false, zret_n, zret_v, uf_s, uf_n, ug_s, ug_a, ug_i, uf_uf, uf_sw, uf_id, vI_inj, vA_inj, true_and, and_true, true_or, or_true, false_or, or_false, znc, Nat.reduceEqDiff, Nat.reduceLeDiff, Nat.reduceAdd, zw_n, zw_i, zw_l, zw_a, zb_01, zb_0, zb_n0, zif_not, Int.reduceEq, Int.reduceLE, Int.reduceLT, Int.reduceNeg, Int.reduceAdd, Int.reduceSub, Int.reduceMul, Int.reduceToNat, and_self, zshr_0]
  refine zif_in (fun q => ?_) (fun q => main (Or.inl (by omega)))
  try simp (disch := first | omega | (simp (disch := omega) only [uf_s, uf_n, ug_s, ug_a, ug_i] <;> omega)) only [wr_id, wb_id, wc_id, wl_id, zif_true, zif_false, zret_n, zret_v, uf_s, uf_n, ug_s, ug_a, ug_i, uf_uf, uf_sw, uf_id, vI_inj, vA_inj, true_and, and_true, true_or, or_true, false_or, or_false, znc, Nat.reduceEqDiff, Nat.reduceLeDiff, Nat.reduceAdd, zw_n, zw_i, zw_l, zw_a, zb_01, zb_0, zb_n0, zif_not, Int.reduceEq, Int.reduceLE, Int.reduceLT, Int.reduceNeg, Int.reduceAdd, Int.reduceSub, Int.reduceMul, Int.reduceToNat, and_self, zshr_0]
  refine zif_in (fun q2 => And.intro (by omega) (And.intro (by omega) (zif_in (fun q3 => ?_) (fun q3 => ?_)))) (fun q2 => absurd q2 (by omega))
  · refine hQ0 (fun n hr => ?_)
    rcases hr.2.2.1 with z | z
    · omega
    · exact z (by rw [q3, show i + p - 1 = i - 1 + p by omega])
  · exact main (Or.inr (fun z => q3 (by rw [z, show i + p - 1 = i - 1 + p by omega])))
theorem t_run0 {k x i : Int} {L : List (Int × Int × Int)} (h : f 59 ≤ 64) (hL : RunL (g 5) (f 59) L) (hx : 0 ≤ x ∧ x ≤ 2) (hk : k ≤ 2147483647) (h0 : 0 ≤ i ∧ i < f 59) (hR : Q (.inl (some (vI (pickR L k x)))) (tw b f g)) (hQ : ∀ L0 R, RunS (i + 1) 1 L L0 R → (L0.length : Int) ≤ 64 * (i + 1) → (k < 0 ∨ (L0.length : Int) ≤ k) → ∀ u v, WP 239 0 114 [vA (some 69), vI k, vI x, vI L0.length, vI i, u, v] [] (tw b f g) Q) : ∀ (m : Nat) (p : Int) (L0 R : List (Int × Int × Int)) (u : V), (f 59 - i + 2 - 2 * p).toNat < m → 1 ≤ p → p ≤ 64 → RunS i p L L0 R → (L0.length : Int) ≤ 64 * i + (p - 1) → (k < 0 ∨ (L0.length : Int) ≤ k) → WP 239 0 46 [vA (some 69), vI k, vI x, vI L0.length, vI i, vI p, u] [] (tw b f g) Q := by
  intro m
  induction m with
  | zero => intro p L0 R u hk; omega
  | succ m ih =>
    intro p L0 R u hm p0 p1 hS hl hk0
    rw [s239_46]
    simp (disch := first | omega | (simp (disch := omega) only [uf_s, uf_n, ug_s, ug_a, ug_i] <;> omega)) only [s239_47, s239_49, s239_50, s239_51, s239_54, s239_56, s239_57, s239_60, s239_61, s239_63, s239_65, tk_69, tk_70, tk_71, tk_72, tk_73, tk_74, tk_75, tk_76, tk_77, tk_78, tk_79, tk_80, tk_81, tk_82, tk_83, tk_84, tm_thrown, tm_taped, tm_point, tm_begin, tm_size, tm_faultAt, tm_fault, tm_hasLimit, tm_many, tm_acts, tm_tries, tm_foundMany, tm_isCut, tm_wanted, tm_mapNow, tm_isFound, tm_isNoCode, tm_tape, tm_five, tm_told, tm_draft, tm_word, tm_given, tm_past, tm_sizes, tm_begun, tm_row, tm_imaged, tm_counts, tm_sums, tm_hangs, tm_joined, ta_1, ta_2, ta_3, ta_4, ta_5, ta_6, ta_7, ta_8, ta_9, ta_10, ta_11, ta_12, ta_13, ta_14, ta_15, tp_thrown, tp_taped, tp_point, tp_begin, tp_size, tp_faultAt, tp_fault, tp_hasLimit, tp_many, tp_acts, tp_tries, tp_foundMany, tp_isCut, tp_wanted, tp_mapNow, tp_isFound, tp_isNoCode, tq_1, tq_2, tq_3, tq_4, tq_5, tq_6, tq_7, tq_8, tq_9, tq_10, tq_11, tq_12, tq_13, tq_14, tq_15, zh_45_110, zh_46_110, zh_47_110, zh_48_110, zh_49_110, zh_50_110, zh_51_110, zh_52_110, zh_53_110, zh_54_110, zh_55_110, zh_56_110, zh_57_110, zh_58_110, zh_59_110, zh_60_110, zh_61_110, zh_62_110, zh_63_110, zh_64_110, zh_65_110, zh_66_110, zh_67_110, zh_68_110, zh_69_110, zh_70_110, zh_71_110, zh_72_110, zh_73_110, zh_74_110, zh_75_110, zh_76_110, wr_id, wb_id, wc_id, wl_id, zif_true, zif_false, zret_n, zret_v, uf_s, uf_n, ug_s, ug_a, ug_i, uf_uf, uf_sw, uf_id, vI_inj, vA_inj, true_and, and_true, true_or, or_true, false_or, or_false, znc, Nat.reduceEqDiff, Nat.reduceLeDiff, Nat.reduceAdd, zw_n, zw_i, zw_l, zw_a, zb_01, zb_0, zb_n0, zif_not, Int.reduceEq, Int.reduceLE, Int.reduceLT, Int.reduceNeg, Int.reduceAdd, Int.reduceSub, Int.reduceMul, Int.reduceToNat, and_self, zshr_0]
    refine zif_in (fun q => ?_) (fun q => ?_)
    · exact hQ L0 R (RunS_end hL hS (by omega)) (by omega) hk0 _ _
    · refine t_runAt h h0.1 p0 (by omega) (fun n hn => ?_) (fun hn => ?_)
      · obtain ⟨R', e, hS'⟩ := RunS_yes hL hS hn
        have hn1 := hn.1
        simp (disch := first | omega | (simp (disch := omega) only [uf_s, uf_n, ug_s, ug_a, ug_i] <;> omega)) only [s239_68, s239_70, s239_72, s239_75, s239_78, s239_79, s239_80, s239_83, s239_84, s239_87, s239_89, s239_92, s239_93, s239_94, s239_97, s239_99, s239_102, s239_104, s239_105, s239_108, s239_111, tk_69, tk_70, tk_71, tk_72, tk_73, tk_74, tk_75, tk_76, tk_77, tk_78, tk_79, tk_80, tk_81, tk_82, tk_83, tk_84, tm_thrown, tm_taped, tm_point, tm_begin, tm_size, tm_faultAt, tm_fault, tm_hasLimit, tm_many, tm_acts, tm_tries, tm_foundMany, tm_isCut, tm_wanted, tm_mapNow, tm_isFound, tm_isNoCode, tm_tape, tm_five, tm_told, tm_draft, tm_word, tm_given, tm_past, tm_sizes, tm_begun, tm_row, tm_imaged, tm_counts, tm_sums, tm_hangs, tm_joined, ta_1, ta_2, ta_3, ta_4, ta_5, ta_6, ta_7, ta_8, ta_9, ta_10, ta_11, ta_12, ta_13, ta_14, ta_15, tp_thrown, tp_taped, tp_point, tp_begin, tp_size, tp_faultAt, tp_fault, tp_hasLimit, tp_many, tp_acts, tp_tries, tp_foundMany, tp_isCut, tp_wanted, tp_mapNow, tp_isFound, tp_isNoCode, tq_1, tq_2, tq_3, tq_4, tq_5, tq_6, tq_7, tq_8, tq_9, tq_10, tq_11, tq_12, tq_13, tq_14, tq_15, zh_45_110, zh_46_110, zh_47_110, zh_48_110, zh_49_110, zh_50_110, zh_51_110, zh_52_110, zh_53_110, zh_54_110, zh_55_110, zh_56_110, zh_57_110, zh_58_110, zh_59_110, zh_60_110, zh_61_110, zh_62_110, zh_63_110, zh_64_110, zh_65_110, zh_66_110, zh_67_110, zh_68_110, zh_69_110, zh_70_110, zh_71_110, zh_72_110, zh_73_110, zh_74_110, zh_75_110, zh_76_110, wr_id, wb_id, wc_id, wl_id, zif_true, zif_false, zret_n, zret_v, uf_s, uf_n, ug_s, ug_a, ug_i, uf_uf, uf_sw, uf_id, vI_inj, vA_inj, true_and, and_true, true_or, or_true, false_or, or_false, znc, Nat.reduceEqDiff, Nat.reduceLeDiff, Nat.reduceAdd, zw_n, zw_i, zw_l, zw_a, zb_01, zb_0, zb_n0, zif_not, Int.reduceEq, Int.reduceLE, Int.reduceLT, Int.reduceNeg, Int.reduceAdd, Int.reduceSub, Int.reduceMul, Int.reduceToNat, and_self, zshr_0]
        refine zif_in (fun q2 => absurd q2 (by omega)) (fun q2 => zif_in (fun q3 => ?_) (fun q3 => ?_))
        · have hk1 : k.toNat = L0.length := by omega
          have eR : pickR L k x = if x = 0 then i else if x = 1 then n else p := by
            unfold pickR
            rw [if_neg (by omega), if_pos (by omega), hS.1, e, hk1]
            simp
          rw [eR] at hR
          refine zif_in (fun c1 => ?_) (fun c1 => zif_in (fun c2 => ?_) (fun c2 => ?_))
          · rw [if_pos c1] at hR; exact hR
          · rw [if_neg c1, if_pos c2] at hR; exact hR
          · rw [if_neg c1, if_neg c2] at hR; exact hR
        · have e2 : ((L0 ++ [(i, n, p)]).length : Int) = (L0.length : Int) + 1 := by simp
          have := ih (p + 1) (L0 ++ [(i, n, p)]) R' (vI n) (by omega) (by omega) (by omega) hS' (by omega) (by omega)
          rw [e2] at this
          exact this
      · simp (disch := first | omega | (simp (disch := omega) only [uf_s, uf_n, ug_s, ug_a, ug_i] <;> omega)) only [s239_68, s239_70, s239_72, s239_75, s239_78, s239_79, s239_80, s239_83, s239_84, s239_87, s239_89, s239_92, s239_93, s239_94, s239_97, s239_99, s239_102, s239_104, s239_105, s239_108, s239_111, tk_69, tk_70, tk_71, tk_72, tk_73, tk_74, tk_75, tk_76, tk_77, tk_78, tk_79, tk_80, tk_81, tk_82, tk_83, tk_84, tm_thrown, tm_taped, tm_point, tm_begin, tm_size, tm_faultAt, tm_fault, tm_hasLimit, tm_many, tm_acts, tm_tries, tm_foundMany, tm_isCut, tm_wanted, tm_mapNow, tm_isFound, tm_isNoCode, tm_tape, tm_five, tm_told, tm_draft, tm_word, tm_given, tm_past, tm_sizes, tm_begun, tm_row, tm_imaged, tm_counts, tm_sums, tm_hangs, tm_joined, ta_1, ta_2, ta_3, ta_4, ta_5, ta_6, ta_7, ta_8, ta_9, ta_10, ta_11, ta_12, ta_13, ta_14, ta_15, tp_thrown, tp_taped, tp_point, tp_begin, tp_size, tp_faultAt, tp_fault, tp_hasLimit, tp_many, tp_acts, tp_tries, tp_foundMany, tp_isCut, tp_wanted, tp_mapNow, tp_isFound, tp_isNoCode, tq_1, tq_2, tq_3, tq_4, tq_5, tq_6, tq_7, tq_8, tq_9, tq_10, tq_11, tq_12, tq_13, tq_14, tq_15, zh_45_110, zh_46_110, zh_47_110, zh_48_110, zh_49_110, zh_50_110, zh_51_110, zh_52_110, zh_53_110, zh_54_110, zh_55_110, zh_56_110, zh_57_110, zh_58_110, zh_59_110, zh_60_110, zh_61_110, zh_62_110, zh_63_110, zh_64_110, zh_65_110, zh_66_110, zh_67_110, zh_68_110, zh_69_110, zh_70_110, zh_71_110, zh_72_110, zh_73_110, zh_74_110, zh_75_110, zh_76_110, wr_id, wb_id, wc_id, wl_id, zif_true, zif_false, zret_n, zret_v, uf_s, uf_n, ug_s, ug_a, ug_i, uf_uf, uf_sw, uf_id, vI_inj, vA_inj, true_and, and_true, true_or, or_true, false_or, or_false, znc, Nat.reduceEqDiff, Nat.reduceLeDiff, Nat.reduceAdd, zw_n, zw_i, zw_l, zw_a, zb_01, zb_0, zb_n0, zif_not, Int.reduceEq, Int.reduceLE, Int.reduceLT, Int.reduceNeg, Int.reduceAdd, Int.reduceSub, Int.reduceMul, Int.reduceToNat, and_self, zshr_0]
        exact ih (p + 1) L0 R _ (by omega) (by omega) (by omega) (RunS_no hL hS hn) (by omega) hk0
theorem t_run1 {k x : Int} {L : List (Int × Int × Int)} (h : 0 ≤ f 59 ∧ f 59 ≤ 64) (hL : RunL (g 5) (f 59) L) (hx : 0 ≤ x ∧ x ≤ 2) (hk : k ≤ 2147483647) (hR : Q (.inl (some (vI (pickR L k x)))) (tw b f g)) : ∀ (m : Nat) (i : Int) (L0 R : List (Int × Int × Int)) (u v : V), (f 59 - i).toNat < m → 0 ≤ i → i ≤ f 59 → RunS i 1 L L0 R → (L0.length : Int) ≤ 64 * i → (k < 0 ∨ (L0.length : Int) ≤ k) → WP 239 0 34 [vA (some 69), vI k, vI x, vI L0.length, vI i, u, v] [] (tw b f g) Q := by
  intro m
  induction m with
  | zero => intro p L0 R u v hk; omega
  | succ m ih =>
    intro i L0 R u v hm i0 i1 hS hl hk0
    rw [s239_34]
    simp (disch := first | omega | (simp (disch := omega) only [uf_s, uf_n, ug_s, ug_a, ug_i] <;> omega)) only [s239_36, s239_37, s239_40, s239_43, s239_44, s239_120, s239_121, s239_122, s239_125, s239_126, s239_129, s239_130, tk_69, tk_70, tk_71, tk_72, tk_73, tk_74, tk_75, tk_76, tk_77, tk_78, tk_79, tk_80, tk_81, tk_82, tk_83, tk_84, tm_thrown, tm_taped, tm_point, tm_begin, tm_size, tm_faultAt, tm_fault, tm_hasLimit, tm_many, tm_acts, tm_tries, tm_foundMany, tm_isCut, tm_wanted, tm_mapNow, tm_isFound, tm_isNoCode, tm_tape, tm_five, tm_told, tm_draft, tm_word, tm_given, tm_past, tm_sizes, tm_begun, tm_row, tm_imaged, tm_counts, tm_sums, tm_hangs, tm_joined, ta_1, ta_2, ta_3, ta_4, ta_5, ta_6, ta_7, ta_8, ta_9, ta_10, ta_11, ta_12, ta_13, ta_14, ta_15, tp_thrown, tp_taped, tp_point, tp_begin, tp_size, tp_faultAt, tp_fault, tp_hasLimit, tp_many, tp_acts, tp_tries, tp_foundMany, tp_isCut, tp_wanted, tp_mapNow, tp_isFound, tp_isNoCode, tq_1, tq_2, tq_3, tq_4, tq_5, tq_6, tq_7, tq_8, tq_9, tq_10, tq_11, tq_12, tq_13, tq_14, tq_15, zh_45_110, zh_46_110, zh_47_110, zh_48_110, zh_49_110, zh_50_110, zh_51_110, zh_52_110, zh_53_110, zh_54_110, zh_55_110, zh_56_110, zh_57_110, zh_58_110, zh_59_110, zh_60_110, zh_61_110, zh_62_110, zh_63_110, zh_64_110, zh_65_110, zh_66_110, zh_67_110, zh_68_110, zh_69_110, zh_70_110, zh_71_110, zh_72_110, zh_73_110, zh_74_110, zh_75_110, zh_76_110, wr_id, wb_id, wc_id, wl_id, zif_true, zif_false, zret_n, zret_v, uf_s, uf_n, ug_s, ug_a, ug_i, uf_uf, uf_sw, uf_id, vI_inj, vA_inj, true_and, and_true, true_or, or_true, false_or, or_false, znc, Nat.reduceEqDiff, Nat.reduceLeDiff, Nat.reduceAdd, zw_n, zw_i, zw_l, zw_a, zb_01, zb_0, zb_n0, zif_not, Int.reduceEq, Int.reduceLE, Int.reduceLT, Int.reduceNeg, Int.reduceAdd, Int.reduceSub, Int.reduceMul, Int.reduceToNat, and_self, zshr_0]
    refine zif_in (fun q => ?_) (fun q => ?_)
    · refine t_run0 h.2 hL hx hk ⟨i0, q⟩ hR (fun L0 R hS hl hk0 u v => ?_) _ 1 L0 R _ (Nat.lt_succ_self _) (by omega) (by omega) hS (by omega) hk0
      simp (disch := first | omega | (simp (disch := omega) only [uf_s, uf_n, ug_s, ug_a, ug_i] <;> omega)) only [s239_114, s239_117, tk_69, tk_70, tk_71, tk_72, tk_73, tk_74, tk_75, tk_76, tk_77, tk_78, tk_79, tk_80, tk_81, tk_82, tk_83, tk_84, tm_thrown, tm_taped, tm_point, tm_begin, tm_size, tm_faultAt, tm_fault, tm_hasLimit, tm_many, tm_acts, tm_tries, tm_foundMany, tm_isCut, tm_wanted, tm_mapNow, tm_isFound, tm_isNoCode, tm_tape, tm_five, tm_told, tm_draft, tm_word, tm_given, tm_past, tm_sizes, tm_begun, tm_row, tm_imaged, tm_counts, tm_sums, tm_hangs, tm_joined, ta_1, ta_2, ta_3, ta_4, ta_5, ta_6, ta_7, ta_8, ta_9, ta_10, ta_11, ta_12, ta_13, ta_14, ta_15, tp_thrown, tp_taped, tp_point, tp_begin, tp_size, tp_faultAt, tp_fault, tp_hasLimit, tp_many, tp_acts, tp_tries, tp_foundMany, tp_isCut, tp_wanted, tp_mapNow, tp_isFound, tp_isNoCode, tq_1, tq_2, tq_3, tq_4, tq_5, tq_6, tq_7, tq_8, tq_9, tq_10, tq_11, tq_12, tq_13, tq_14, tq_15, zh_45_110, zh_46_110, zh_47_110, zh_48_110, zh_49_110, zh_50_110, zh_51_110, zh_52_110, zh_53_110, zh_54_110, zh_55_110, zh_56_110, zh_57_110, zh_58_110, zh_59_110, zh_60_110, zh_61_110, zh_62_110, zh_63_110, zh_64_110, zh_65_110, zh_66_110, zh_67_110, zh_68_110, zh_69_110, zh_70_110, zh_71_110, zh_72_110, zh_73_110, zh_74_110, zh_75_110, zh_76_110, wr_id, wb_id, wc_id, wl_id, zif_true, zif_false, zret_n, zret_v, uf_s, uf_n, ug_s, ug_a, ug_i, uf_uf, uf_sw, uf_id, vI_inj, vA_inj, true_and, and_true, true_or, or_true, false_or, or_false, znc, Nat.reduceEqDiff, Nat.reduceLeDiff, Nat.reduceAdd, zw_n, zw_i, zw_l, zw_a, zb_01, zb_0, zb_n0, zif_not, Int.reduceEq, Int.reduceLE, Int.reduceLT, Int.reduceNeg, Int.reduceAdd, Int.reduceSub, Int.reduceMul, Int.reduceToNat, and_self, zshr_0]
      exact ih (i + 1) L0 R u v (by omega) (by omega) (by omega) hS hl hk0
    · have hRn : R = [] := by
        cases R with
        | nil => rfl
        | cons y R' =>
          have hr := ((hL.2 y).mp (by rw [hS.1]; simp)).1
          have := hS.2.2 y (List.mem_cons_self ..)
          unfold runD at this
          omega
      have e : L = L0 := by rw [hS.1, hRn]; simp
      rw [e] at hR
      unfold pickR at hR
      refine zif_in (fun c => ?_) (fun c => ?_)
      · rw [if_pos c] at hR; exact hR
      · rw [if_neg c] at hR
        by_cases c2 : 0 ≤ k
        · rw [if_pos c2, List.getElem?_eq_none (by omega)] at hR; exact hR
        · rw [if_neg c2] at hR; exact hR
theorem t_run {k x : Int} {L : List (Int × Int × Int)} (h : 0 ≤ f 59 ∧ f 59 ≤ 64) (hL : RunL (g 5) (f 59) L) (hk : k ≤ 2147483647) : WP 239 0 0 [vA (some 69), vI k, vI x, vJ, vJ, vJ, vJ] [] (tw b f g) Q ↔ zif (0 ≤ x ∧ x ≤ 2) (Q (.inl (some (vI (pickR L k x)))) (tw b (uf f 45 0) g)) (Q (.inl (some (vI 0))) (tw b (uf f 45 1) g)) := by
  refine wp_iffb (fun c => ?_) (fun c => ?_)
  · simp (disch := first | omega | (simp (disch := omega) only [uf_s, uf_n, ug_s, ug_a, ug_i] <;> omega)) only [s239_0, s239_1, s239_2, s239_5, s239_6, s239_7, s239_8, s239_9, tk_69, tk_70, tk_71, tk_72, tk_73, tk_74, tk_75, tk_76, tk_77, tk_78, tk_79, tk_80, tk_81, tk_82, tk_83, tk_84, tm_thrown, tm_taped, tm_point, tm_begin, tm_size, tm_faultAt, tm_fault, tm_hasLimit, tm_many, tm_acts, tm_tries, tm_foundMany, tm_isCut, tm_wanted, tm_mapNow, tm_isFound, tm_isNoCode, tm_tape, tm_five, tm_told, tm_draft, tm_word, tm_given, tm_past, tm_sizes, tm_begun, tm_row, tm_imaged, tm_counts, tm_sums, tm_hangs, tm_joined, ta_1, ta_2, ta_3, ta_4, ta_5, ta_6, ta_7, ta_8, ta_9, ta_10, ta_11, ta_12, ta_13, ta_14, ta_15, tp_thrown, tp_taped, tp_point, tp_begin, tp_size, tp_faultAt, tp_fault, tp_hasLimit, tp_many, tp_acts, tp_tries, tp_foundMany, tp_isCut, tp_wanted, tp_mapNow, tp_isFound, tp_isNoCode, tq_1, tq_2, tq_3, tq_4, tq_5, tq_6, tq_7, tq_8, tq_9, tq_10, tq_11, tq_12, tq_13, tq_14, tq_15, zh_45_110, zh_46_110, zh_47_110, zh_48_110, zh_49_110, zh_50_110, zh_51_110, zh_52_110, zh_53_110, zh_54_110, zh_55_110, zh_56_110, zh_57_110, zh_58_110, zh_59_110, zh_60_110, zh_61_110, zh_62_110, zh_63_110, zh_64_110, zh_65_110, zh_66_110, zh_67_110, zh_68_110, zh_69_110, zh_70_110, zh_71_110, zh_72_110, zh_73_110, zh_74_110, zh_75_110, zh_76_110, wr_id, wb_id, wc_id, wl_id, zif_true, zif_false, zret_n, zret_v, uf_s, uf_n, ug_s, ug_a, ug_i, uf_uf, uf_sw, uf_id, vI_inj, vA_inj, true_and, and_true, true_or, or_true, false_or, or_false, znc, Nat.reduceEqDiff, Nat.reduceLeDiff, Nat.reduceAdd, zw_n, zw_i, zw_l, zw_a, zb_01, zb_0, zb_n0, zif_not, Int.reduceEq, Int.reduceLE, Int.reduceLT, Int.reduceNeg, Int.reduceAdd, Int.reduceSub, Int.reduceMul, Int.reduceToNat, and_self, zshr_0, t_in]
    rw [zif_t c]
    simp (disch := first | omega | (simp (disch := omega) only [uf_s, uf_n, ug_s, ug_a, ug_i] <;> omega)) only [s239_12, s239_15, s239_16, s239_19, s239_20, s239_21, s239_24, s239_27, s239_28, s239_29, s239_30, s239_31, s239_32, tk_69, tk_70, tk_71, tk_72, tk_73, tk_74, tk_75, tk_76, tk_77, tk_78, tk_79, tk_80, tk_81, tk_82, tk_83, tk_84, tm_thrown, tm_taped, tm_point, tm_begin, tm_size, tm_faultAt, tm_fault, tm_hasLimit, tm_many, tm_acts, tm_tries, tm_foundMany, tm_isCut, tm_wanted, tm_mapNow, tm_isFound, tm_isNoCode, tm_tape, tm_five, tm_told, tm_draft, tm_word, tm_given, tm_past, tm_sizes, tm_begun, tm_row, tm_imaged, tm_counts, tm_sums, tm_hangs, tm_joined, ta_1, ta_2, ta_3, ta_4, ta_5, ta_6, ta_7, ta_8, ta_9, ta_10, ta_11, ta_12, ta_13, ta_14, ta_15, tp_thrown, tp_taped, tp_point, tp_begin, tp_size, tp_faultAt, tp_fault, tp_hasLimit, tp_many, tp_acts, tp_tries, tp_foundMany, tp_isCut, tp_wanted, tp_mapNow, tp_isFound, tp_isNoCode, tq_1, tq_2, tq_3, tq_4, tq_5, tq_6, tq_7, tq_8, tq_9, tq_10, tq_11, tq_12, tq_13, tq_14, tq_15, zh_45_110, zh_46_110, zh_47_110, zh_48_110, zh_49_110, zh_50_110, zh_51_110, zh_52_110, zh_53_110, zh_54_110, zh_55_110, zh_56_110, zh_57_110, zh_58_110, zh_59_110, zh_60_110, zh_61_110, zh_62_110, zh_63_110, zh_64_110, zh_65_110, zh_66_110, zh_67_110, zh_68_110, zh_69_110, zh_70_110, zh_71_110, zh_72_110, zh_73_110, zh_74_110, zh_75_110, zh_76_110, wr_id, wb_id, wc_id, wl_id, zif_true, zif_false, zret_n, zret_v, uf_s, uf_n, ug_s, ug_a, ug_i, uf_uf, uf_sw, uf_id, vI_inj, vA_inj, true_and, and_true, true_or, or_true, false_or, or_false, znc, Nat.reduceEqDiff, Nat.reduceLeDiff, Nat.reduceAdd, zw_n, zw_i, zw_l, zw_a, zb_01, zb_0, zb_n0, zif_not, Int.reduceEq, Int.reduceLE, Int.reduceLT, Int.reduceNeg, Int.reduceAdd, Int.reduceSub, Int.reduceMul, Int.reduceToNat, and_self, zshr_0, t_throws0]
    exact t_run1 (b := b) (f := uf f 45 0) (g := g) (Q := zD _ _) (k := k) (x := x) (L := L) (by simp (disch := first | omega | (simp (disch := omega) only [uf_s, uf_n, ug_s, ug_a, ug_i] <;> omega)) only [uf_s, uf_n, ug_s, ug_a, ug_i, uf_uf, uf_sw, uf_id]; exact h) (by simp (disch := first | omega | (simp (disch := omega) only [uf_s, uf_n, ug_s, ug_a, ug_i] <;> omega)) only [uf_s, uf_n, ug_s, ug_a, ug_i, uf_uf, uf_sw, uf_id]; exact hL) c hk ⟨rfl, rfl⟩ _ 0 [] L vJ vJ (Nat.lt_succ_self _) (by omega) (by simp (disch := first | omega | (simp (disch := omega) only [uf_s, uf_n, ug_s, ug_a, ug_i] <;> omega)) only [uf_s, uf_n, ug_s, ug_a, ug_i, uf_uf, uf_sw, uf_id]; omega) ⟨rfl, fun x hx => (by cases hx), fun x hx z => (by have := ((hL.2 x).mp hx).1; unfold runD at z; omega)⟩ (by simp) (by simp; omega)
  · simp (disch := first | omega | (simp (disch := omega) only [uf_s, uf_n, ug_s, ug_a, ug_i] <;> omega)) only [s239_0, s239_1, s239_2, s239_5, s239_6, s239_7, s239_8, s239_9, tk_69, tk_70, tk_71, tk_72, tk_73, tk_74, tk_75, tk_76, tk_77, tk_78, tk_79, tk_80, tk_81, tk_82, tk_83, tk_84, tm_thrown, tm_taped, tm_point, tm_begin, tm_size, tm_faultAt, tm_fault, tm_hasLimit, tm_many, tm_acts, tm_tries, tm_foundMany, tm_isCut, tm_wanted, tm_mapNow, tm_isFound, tm_isNoCode, tm_tape, tm_five, tm_told, tm_draft, tm_word, tm_given, tm_past, tm_sizes, tm_begun, tm_row, tm_imaged, tm_counts, tm_sums, tm_hangs, tm_joined, ta_1, ta_2, ta_3, ta_4, ta_5, ta_6, ta_7, ta_8, ta_9, ta_10, ta_11, ta_12, ta_13, ta_14, ta_15, tp_thrown, tp_taped, tp_point, tp_begin, tp_size, tp_faultAt, tp_fault, tp_hasLimit, tp_many, tp_acts, tp_tries, tp_foundMany, tp_isCut, tp_wanted, tp_mapNow, tp_isFound, tp_isNoCode, tq_1, tq_2, tq_3, tq_4, tq_5, tq_6, tq_7, tq_8, tq_9, tq_10, tq_11, tq_12, tq_13, tq_14, tq_15, zh_45_110, zh_46_110, zh_47_110, zh_48_110, zh_49_110, zh_50_110, zh_51_110, zh_52_110, zh_53_110, zh_54_110, zh_55_110, zh_56_110, zh_57_110, zh_58_110, zh_59_110, zh_60_110, zh_61_110, zh_62_110, zh_63_110, zh_64_110, zh_65_110, zh_66_110, zh_67_110, zh_68_110, zh_69_110, zh_70_110, zh_71_110, zh_72_110, zh_73_110, zh_74_110, zh_75_110, zh_76_110, wr_id, wb_id, wc_id, wl_id, zif_true, zif_false, zret_n, zret_v, uf_s, uf_n, ug_s, ug_a, ug_i, uf_uf, uf_sw, uf_id, vI_inj, vA_inj, true_and, and_true, true_or, or_true, false_or, or_false, znc, Nat.reduceEqDiff, Nat.reduceLeDiff, Nat.reduceAdd, zw_n, zw_i, zw_l, zw_a, zb_01, zb_0, zb_n0, zif_not, Int.reduceEq, Int.reduceLE, Int.reduceLT, Int.reduceNeg, Int.reduceAdd, Int.reduceSub, Int.reduceMul, Int.reduceToNat, and_self, zshr_0, t_in]
    rw [zif_f c]
    simp (disch := first | omega | (simp (disch := omega) only [uf_s, uf_n, ug_s, ug_a, ug_i] <;> omega)) only [s239_12, s239_15, s239_16, s239_19, s239_20, s239_21, s239_24, s239_27, s239_28, s239_29, s239_30, s239_31, s239_32, tk_69, tk_70, tk_71, tk_72, tk_73, tk_74, tk_75, tk_76, tk_77, tk_78, tk_79, tk_80, tk_81, tk_82, tk_83, tk_84, tm_thrown, tm_taped, tm_point, tm_begin, tm_size, tm_faultAt, tm_fault, tm_hasLimit, tm_many, tm_acts, tm_tries, tm_foundMany, tm_isCut, tm_wanted, tm_mapNow, tm_isFound, tm_isNoCode, tm_tape, tm_five, tm_told, tm_draft, tm_word, tm_given, tm_past, tm_sizes, tm_begun, tm_row, tm_imaged, tm_counts, tm_sums, tm_hangs, tm_joined, ta_1, ta_2, ta_3, ta_4, ta_5, ta_6, ta_7, ta_8, ta_9, ta_10, ta_11, ta_12, ta_13, ta_14, ta_15, tp_thrown, tp_taped, tp_point, tp_begin, tp_size, tp_faultAt, tp_fault, tp_hasLimit, tp_many, tp_acts, tp_tries, tp_foundMany, tp_isCut, tp_wanted, tp_mapNow, tp_isFound, tp_isNoCode, tq_1, tq_2, tq_3, tq_4, tq_5, tq_6, tq_7, tq_8, tq_9, tq_10, tq_11, tq_12, tq_13, tq_14, tq_15, zh_45_110, zh_46_110, zh_47_110, zh_48_110, zh_49_110, zh_50_110, zh_51_110, zh_52_110, zh_53_110, zh_54_110, zh_55_110, zh_56_110, zh_57_110, zh_58_110, zh_59_110, zh_60_110, zh_61_110, zh_62_110, zh_63_110, zh_64_110, zh_65_110, zh_66_110, zh_67_110, zh_68_110, zh_69_110, zh_70_110, zh_71_110, zh_72_110, zh_73_110, zh_74_110, zh_75_110, zh_76_110, wr_id, wb_id, wc_id, wl_id, zif_true, zif_false, zret_n, zret_v, uf_s, uf_n, ug_s, ug_a, ug_i, uf_uf, uf_sw, uf_id, vI_inj, vA_inj, true_and, and_true, true_or, or_true, false_or, or_false, znc, Nat.reduceEqDiff, Nat.reduceLeDiff, Nat.reduceAdd, zw_n, zw_i, zw_l, zw_a, zb_01, zb_0, zb_n0, zif_not, Int.reduceEq, Int.reduceLE, Int.reduceLT, Int.reduceNeg, Int.reduceAdd, Int.reduceSub, Int.reduceMul, Int.reduceToNat, and_self, zshr_0, t_throws1]
    exact ⟨rfl, rfl⟩
end
