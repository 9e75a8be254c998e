/-! Searches, plain: words grow letter by letter; by fuel. A word is the list of its letters, the last one first. -/
def fnR : List Int → Nat → Int
  | [] => fun _ => 0
  | x :: s => uf (fnR s) s.length x
/-- a word is free where it ends -/
def FreeS (t : Nat → Int) (s : List Int) : Prop := FreeE t (fnR s) s.length
/-- 0: through; 1: stopped; 2: cut -/
abbrev DR : Type := Nat × List Int × Int × Int
noncomputable def dfs (P : List Int → Prop) (St : List Int → Int → Prop) (U : List Int → Int → Int) (L n B : Int) : Nat → List Int → Int → Int → Int → DR
  | 0, s, _, T, c => (3, s, T, c)
  | F + 1, s, l, T, c =>
    if (s.length : Int) = n then
      @ite _ (St s c) (Classical.propDecidable _) (1, s, T, U s c) (if (s.length : Int) = B then (0, s, T, U s c) else match s with | [] => (0, s, T, U s c) | x :: s' => dfs P St U L n B F s' (x + 1) T (U s c))
    else if l < L then (if T = 5000 then (2, s, T, c) else @ite _ (P (l :: s)) (Classical.propDecidable _) (dfs P St U L n B F (l :: s) 0 (T + 1) c) (dfs P St U L n B F s (l + 1) (T + 1) c))
    else if (s.length : Int) = B then (0, s, T, c) else match s with | [] => (0, s, T, c) | x :: s' => dfs P St U L n B F s' (x + 1) T c
section
variable {P : List Int → Prop} {St : List Int → Int → Prop} {U : List Int → Int → Int} {L n B : Int} {F : Nat} {s : List Int} {l T c x : Int}
theorem dfs_stop (h : (s.length : Int) = n) (h2 : St s c) : dfs P St U L n B (F + 1) s l T c = (1, s, T, U s c) := by rw [dfs.eq_def]; simp only [if_pos h, if_pos h2]
theorem dfs_found (h : ((x :: s).length : Int) = n) (h2 : ¬ St (x :: s) c) (h3 : ((x :: s).length : Int) ≠ B) : dfs P St U L n B (F + 1) (x :: s) l T c = dfs P St U L n B F s (x + 1) T (U (x :: s) c) := by rw [dfs.eq_def]; simp only [if_pos h, if_neg h2, if_neg h3]
theorem dfs_found0 (h : (s.length : Int) = n) (h2 : ¬ St s c) (h3 : (s.length : Int) = B) : dfs P St U L n B (F + 1) s l T c = (0, s, T, U s c) := by rw [dfs.eq_def]; simp only [if_pos h, if_neg h2, if_pos h3]
theorem dfs_cut (h : (s.length : Int) ≠ n) (h1 : l < L) : dfs P St U L n B (F + 1) s l 5000 c = (2, s, 5000, c) := by rw [dfs.eq_def]; simp only [if_neg h, if_pos h1, if_true]
theorem dfs_in (h : (s.length : Int) ≠ n) (h1 : l < L) (h2 : T ≠ 5000) (h3 : P (l :: s)) : dfs P St U L n B (F + 1) s l T c = dfs P St U L n B F (l :: s) 0 (T + 1) c := by rw [dfs.eq_def]; simp only [if_neg h, if_pos h1, if_neg h2, if_pos h3]
theorem dfs_no (h : (s.length : Int) ≠ n) (h1 : l < L) (h2 : T ≠ 5000) (h3 : ¬ P (l :: s)) : dfs P St U L n B (F + 1) s l T c = dfs P St U L n B F s (l + 1) (T + 1) c := by rw [dfs.eq_def]; simp only [if_neg h, if_pos h1, if_neg h2, if_neg h3]
theorem dfs_bk (h : ((x :: s).length : Int) ≠ n) (h1 : L ≤ l) (h2 : ((x :: s).length : Int) ≠ B) : dfs P St U L n B (F + 1) (x :: s) l T c = dfs P St U L n B F s (x + 1) T c := by rw [dfs.eq_def]; simp only [if_neg h, if_neg (Int.not_lt.mpr h1), if_neg h2]
theorem dfs_end (h : (s.length : Int) ≠ n) (h1 : L ≤ l) (h2 : (s.length : Int) = B) : dfs P St U L n B (F + 1) s l T c = (0, s, T, c) := by rw [dfs.eq_def]; simp only [if_neg h, if_neg (Int.not_lt.mpr h1), if_pos h2]
end
theorem fnR_l {s : List Int} {x : Int} {i : Nat} (h : i < s.length) : fnR (x :: s) i = fnR s i := by
  show uf (fnR s) s.length x i = _
  rw [uf_n (by omega)]
theorem fnR_x {s : List Int} {x : Int} : fnR (x :: s) s.length = x := uf_s _ _ _
/-- a row holds a word -/
def Rw (w : Nat → Int) (s : List Int) : Prop := Al s.length w (fnR s)
theorem Rw.tl {w : Nat → Int} {s : List Int} {x : Int} (h : Rw w (x :: s)) : Rw w s ∧ w s.length = x := by
  refine ⟨fun i hi => ?_, ?_⟩
  · rw [h i (by rw [List.length_cons]; omega), fnR_l (by omega)]
  · rw [h s.length (by rw [List.length_cons]; omega), fnR_x]
theorem Rw.cons {w : Nat → Int} {s : List Int} {x : Int} (h : Rw w s) : Rw (uf w s.length x) (x :: s) := by
  intro i hi
  rw [List.length_cons] at hi
  by_cases c : i = s.length
  · rw [c, uf_s, fnR_x]
  · rw [uf_n c, fnR_l (by omega)]; exact h i (by omega)
theorem Rw.free {t w : Nat → Int} {s : List Int} (T : TI t) (h : Rw w s) : FreeE t w s.length ↔ FreeS t s := FreeE_c T h (by omega)
