/-! Sizes in order, plain. -/
theorem off_mono_s {sh : Int → Int} {s s' : Nat → Int} {m : Int} (hsh : ∀ j, 0 ≤ j → j < m → 0 ≤ sh j ∧ sh j ≤ 2) (h : s 0 ≤ s' 0 ∧ s 1 ≤ s' 1 ∧ s 2 ≤ s' 2) : ∀ (n : Nat) (k : Int), k.toNat < n → 0 ≤ k → k ≤ m → off sh s k ≤ off sh s' k := by
  intro n
  induction n with
  | zero => intro k hn; omega
  | succ n ih =>
    intro k hn h0 h1
    rcases Int.lt_or_eq_of_le h0 with c | rfl
    · have a1 := ih (k - 1) (by omega) (by omega) (by omega)
      have e := off_s sh s (k := k - 1) (by omega)
      have e' := off_s sh s' (k := k - 1) (by omega)
      rw [show k - 1 + 1 = k by omega] at e e'
      have a2 := hsh (k - 1) (by omega) (by omega)
      have a3 : s (sh (k - 1)).toNat ≤ s' (sh (k - 1)).toNat := by
        rcases (by omega : sh (k - 1) = 0 ∨ sh (k - 1) = 1 ∨ sh (k - 1) = 2) with q | q | q <;> rw [q]
        · exact h.1
        · exact h.2.1
        · exact h.2.2
      omega
    · rw [off_0, off_0]; omega
theorem off_eq_s {sh : Int → Int} {s s' : Nat → Int} {m k : Int} (hsh : ∀ j, 0 ≤ j → j < m → 0 ≤ sh j ∧ sh j ≤ 2) (h : s 0 = s' 0 ∧ s 1 = s' 1 ∧ s 2 = s' 2) (h0 : 0 ≤ k) (h1 : k ≤ m) : off sh s k = off sh s' k := by
  have a1 := off_mono_s (s := s) (s' := s') hsh (by omega) _ k (Nat.lt_succ_self _) h0 h1
  have a2 := off_mono_s (s := s') (s' := s) hsh (by omega) _ k (Nat.lt_succ_self _) h0 h1
  omega
def tri (a b c : Int) (v : Nat) : Int := if v = 0 then a else if v = 1 then b else c
theorem tri_0 (a b c : Int) : tri a b c 0 = a := rfl
theorem tri_1 (a b c : Int) : tri a b c 1 = b := rfl
theorem tri_2 (a b c : Int) : tri a b c 2 = c := rfl
/-- a shape's letter is met -/
def hV (sh : Int → Int) (m v : Int) : Prop := xE 0 m (fun k => sh k = v)
noncomputable def mn (sh : Int → Int) (m v : Int) : Int := zp (hV sh m v)
/-- sizes of the letters that a shape has, and of none else -/
def Good (sh : Int → Int) (m : Int) (s : Nat → Int) : Prop := ∀ v : Int, 0 ≤ v → v ≤ 2 → (hV sh m v → 1 ≤ s v.toNat) ∧ (¬ hV sh m v → s v.toNat = 0)
def Lex (s d : Nat → Int) : Prop := s 0 < d 0 ∨ (s 0 = d 0 ∧ (s 1 < d 1 ∨ (s 1 = d 1 ∧ s 2 < d 2)))
/-- good sizes that come to no more letters -/
def GS (sh : Int → Int) (m most : Int) (s : Nat → Int) : Prop := Good sh m s ∧ off sh s m ≤ most
theorem mn_01 (sh : Int → Int) (m v : Int) : mn sh m v = 0 ∨ mn sh m v = 1 := by
  unfold mn
  by_cases h : hV sh m v
  · rw [zp_t h]; omega
  · rw [zp_f h]; omega
theorem Good.mnb {sh : Int → Int} {m : Int} {s : Nat → Int} (h : Good sh m s) {v : Int} (h0 : 0 ≤ v) (h1 : v ≤ 2) : mn sh m v ≤ s v.toNat ∧ (¬ hV sh m v → s v.toNat = 0 ∧ mn sh m v = 0) := by
  unfold mn
  by_cases c : hV sh m v
  · rw [zp_t c]; exact ⟨(h v h0 h1).1 c, fun z => absurd c z⟩
  · rw [zp_f c]; have := (h v h0 h1).2 c; exact ⟨by omega, fun _ => ⟨this, rfl⟩⟩
section
variable {sh : Int → Int} {m most : Int} {s : Nat → Int}
theorem lex_2 (hsh : ∀ j, 0 ≤ j → j < m → 0 ≤ sh j ∧ sh j ≤ 2) (hm : 0 ≤ m) (hs : Good sh m s) (hF : ¬ hV sh m 2 ∨ most < off sh (tri (s 0) (s 1) (s 2 + 1)) m) {d : Nat → Int} (hd : GS sh m most d) (e0 : d 0 = s 0) (e1 : d 1 = s 1) : d 2 ≤ s 2 := by
  refine Int.not_lt.mp (fun z => ?_)
  rcases hF with c | c
  · have q1 : s 2 = 0 := (hs 2 (by omega) (by omega)).2 c
    have q2 : d 2 = 0 := (hd.1 2 (by omega) (by omega)).2 c
    omega
  · have := off_mono_s (s := tri (s 0) (s 1) (s 2 + 1)) (s' := d) hsh ⟨by rw [tri_0]; omega, by rw [tri_1]; omega, by rw [tri_2]; omega⟩ _ m (Nat.lt_succ_self _) hm (Int.le_refl _)
    have := hd.2
    omega
theorem lex_1 (hsh : ∀ j, 0 ≤ j → j < m → 0 ≤ sh j ∧ sh j ≤ 2) (hm : 0 ≤ m) (hs : Good sh m s) (hF : ¬ hV sh m 1 ∨ most < off sh (tri (s 0) (s 1 + 1) (mn sh m 2)) m) {d : Nat → Int} (hd : GS sh m most d) (e0 : d 0 = s 0) : d 1 ≤ s 1 := by
  refine Int.not_lt.mp (fun z => ?_)
  rcases hF with c | c
  · have q1 : s 1 = 0 := (hs 1 (by omega) (by omega)).2 c
    have q2 : d 1 = 0 := (hd.1 1 (by omega) (by omega)).2 c
    omega
  · have g2 : mn sh m 2 ≤ d 2 := (hd.1.mnb (v := 2) (by omega) (by omega)).1
    have := off_mono_s (s := tri (s 0) (s 1 + 1) (mn sh m 2)) (s' := d) hsh ⟨by rw [tri_0]; omega, by rw [tri_1]; omega, by rw [tri_2]; omega⟩ _ m (Nat.lt_succ_self _) hm (Int.le_refl _)
    have := hd.2
    omega
theorem lex_0 (hsh : ∀ j, 0 ≤ j → j < m → 0 ≤ sh j ∧ sh j ≤ 2) (hm : 0 ≤ m) (hs : Good sh m s) (hF : ¬ hV sh m 0 ∨ most < off sh (tri (s 0 + 1) (mn sh m 1) (mn sh m 2)) m) {d : Nat → Int} (hd : GS sh m most d) : d 0 ≤ s 0 := by
  refine Int.not_lt.mp (fun z => ?_)
  rcases hF with c | c
  · have q1 : s 0 = 0 := (hs 0 (by omega) (by omega)).2 c
    have q2 : d 0 = 0 := (hd.1 0 (by omega) (by omega)).2 c
    omega
  · have g2 : mn sh m 2 ≤ d 2 := (hd.1.mnb (v := 2) (by omega) (by omega)).1
    have g1 : mn sh m 1 ≤ d 1 := (hd.1.mnb (v := 1) (by omega) (by omega)).1
    have := off_mono_s (s := tri (s 0 + 1) (mn sh m 1) (mn sh m 2)) (s' := d) hsh ⟨by rw [tri_0]; omega, by rw [tri_1]; omega, by rw [tri_2]; omega⟩ _ m (Nat.lt_succ_self _) hm (Int.le_refl _)
    have := hd.2
    omega
/-- the next sizes in order -/
def Nxt (sh : Int → Int) (m most : Int) (s x : Nat → Int) : Prop := GS sh m most x ∧ Lex s x ∧ ∀ d, GS sh m most d → Lex s d → ¬ Lex d x
def Last (sh : Int → Int) (m most : Int) (s : Nat → Int) : Prop := ∀ d, GS sh m most d → ¬ Lex s d
theorem good_of {x : Nat → Int} (h0 : (hV sh m 0 → 1 ≤ x 0) ∧ (¬ hV sh m 0 → x 0 = 0)) (h1 : (hV sh m 1 → 1 ≤ x 1) ∧ (¬ hV sh m 1 → x 1 = 0)) (h2 : (hV sh m 2 → 1 ≤ x 2) ∧ (¬ hV sh m 2 → x 2 = 0)) : Good sh m x := by
  intro v v0 v2
  rcases (by omega : v = 0 ∨ v = 1 ∨ v = 2) with rfl | rfl | rfl
  · exact h0
  · exact h1
  · exact h2
theorem mn_ok (v : Int) : (hV sh m v → 1 ≤ mn sh m v) ∧ (¬ hV sh m v → mn sh m v = 0) := by
  unfold mn
  exact ⟨fun h => by rw [zp_t h]; omega, fun h => zp_f h⟩
theorem nxt_2 (hs : Good sh m s) (h : hV sh m 2) {x : Nat → Int} (e : x 0 = s 0 ∧ x 1 = s 1 ∧ x 2 = s 2 + 1) (ho : off sh x m ≤ most) : Nxt sh m most s x := by
  refine ⟨⟨good_of ?_ ?_ ?_, ho⟩, ?_, fun d _ l1 l2 => ?_⟩
  · rw [e.1]; exact hs 0 (by omega) (by omega)
  · rw [e.2.1]; exact hs 1 (by omega) (by omega)
  · have := (hs 2 (by omega) (by omega)).1 h
    exact ⟨fun _ => by rw [e.2.2]; show 1 ≤ s 2 + 1; have e2 : (2 : Int).toNat = 2 := rfl; rw [e2] at this; omega, fun z => absurd h z⟩
  · unfold Lex; omega
  · unfold Lex at l1 l2; omega
theorem nxt_1 (hsh : ∀ j, 0 ≤ j → j < m → 0 ≤ sh j ∧ sh j ≤ 2) (hm : 0 ≤ m) (hs : Good sh m s) (hF2 : ¬ hV sh m 2 ∨ most < off sh (tri (s 0) (s 1) (s 2 + 1)) m) (h : hV sh m 1) {x : Nat → Int} (e : x 0 = s 0 ∧ x 1 = s 1 + 1 ∧ x 2 = mn sh m 2) (ho : off sh x m ≤ most) : Nxt sh m most s x := by
  refine ⟨⟨good_of ?_ ?_ ?_, ho⟩, ?_, fun d hd l1 l2 => ?_⟩
  · rw [e.1]; exact hs 0 (by omega) (by omega)
  · have := (hs 1 (by omega) (by omega)).1 h
    exact ⟨fun _ => by rw [e.2.1]; have e2 : (1 : Int).toNat = 1 := rfl; rw [e2] at this; omega, fun z => absurd h z⟩
  · rw [e.2.2]; exact mn_ok 2
  · unfold Lex; omega
  · have a2 := lex_2 hsh hm hs hF2 hd
    have g2 : mn sh m 2 ≤ d 2 := (hd.1.mnb (v := 2) (by omega) (by omega)).1
    unfold Lex at l1 l2
    omega
theorem nxt_0 (hsh : ∀ j, 0 ≤ j → j < m → 0 ≤ sh j ∧ sh j ≤ 2) (hm : 0 ≤ m) (hs : Good sh m s) (hF2 : ¬ hV sh m 2 ∨ most < off sh (tri (s 0) (s 1) (s 2 + 1)) m) (hF1 : ¬ hV sh m 1 ∨ most < off sh (tri (s 0) (s 1 + 1) (mn sh m 2)) m) (h : hV sh m 0) {x : Nat → Int} (e : x 0 = s 0 + 1 ∧ x 1 = mn sh m 1 ∧ x 2 = mn sh m 2) (ho : off sh x m ≤ most) : Nxt sh m most s x := by
  refine ⟨⟨good_of ?_ ?_ ?_, ho⟩, ?_, fun d hd l1 l2 => ?_⟩
  · have := (hs 0 (by omega) (by omega)).1 h
    exact ⟨fun _ => by rw [e.1]; have e2 : (0 : Int).toNat = 0 := rfl; rw [e2] at this; omega, fun z => absurd h z⟩
  · rw [e.2.1]; exact mn_ok 1
  · rw [e.2.2]; exact mn_ok 2
  · unfold Lex; omega
  · have a2 := lex_2 hsh hm hs hF2 hd
    have a1 := lex_1 hsh hm hs hF1 hd
    have g2 : mn sh m 2 ≤ d 2 := (hd.1.mnb (v := 2) (by omega) (by omega)).1
    have g1 : mn sh m 1 ≤ d 1 := (hd.1.mnb (v := 1) (by omega) (by omega)).1
    unfold Lex at l1 l2
    omega
theorem last_of (hsh : ∀ j, 0 ≤ j → j < m → 0 ≤ sh j ∧ sh j ≤ 2) (hm : 0 ≤ m) (hs : Good sh m s) (hF2 : ¬ hV sh m 2 ∨ most < off sh (tri (s 0) (s 1) (s 2 + 1)) m) (hF1 : ¬ hV sh m 1 ∨ most < off sh (tri (s 0) (s 1 + 1) (mn sh m 2)) m) (hF0 : ¬ hV sh m 0 ∨ most < off sh (tri (s 0 + 1) (mn sh m 1) (mn sh m 2)) m) : Last sh m most s := by
  intro d hd l
  have a2 := lex_2 hsh hm hs hF2 hd
  have a1 := lex_1 hsh hm hs hF1 hd
  have a0 := lex_0 hsh hm hs hF0 hd
  unfold Lex at l
  omega
/-- the first sizes -/
theorem fst_ok {x : Nat → Int} (e : x 0 = mn sh m 0 ∧ x 1 = mn sh m 1 ∧ x 2 = mn sh m 2) : Good sh m x ∧ ∀ d, Good sh m d → ¬ Lex d x := by
  refine ⟨good_of (by rw [e.1]; exact mn_ok 0) (by rw [e.2.1]; exact mn_ok 1) (by rw [e.2.2]; exact mn_ok 2), fun d hd l => ?_⟩
  have g2 : mn sh m 2 ≤ d 2 := (hd.mnb (v := 2) (by omega) (by omega)).1
  have g1 : mn sh m 1 ≤ d 1 := (hd.mnb (v := 1) (by omega) (by omega)).1
  have g0 : mn sh m 0 ≤ d 0 := (hd.mnb (v := 0) (by omega) (by omega)).1
  unfold Lex at l
  omega
theorem fst_no (hsh : ∀ j, 0 ≤ j → j < m → 0 ≤ sh j ∧ sh j ≤ 2) (hm : 0 ≤ m) {x : Nat → Int} (e : x 0 = mn sh m 0 ∧ x 1 = mn sh m 1 ∧ x 2 = mn sh m 2) (ho : most < off sh x m) (d : Nat → Int) : ¬ GS sh m most d := by
  intro hd
  have g2 : mn sh m 2 ≤ d 2 := (hd.1.mnb (v := 2) (by omega) (by omega)).1
  have g1 : mn sh m 1 ≤ d 1 := (hd.1.mnb (v := 1) (by omega) (by omega)).1
  have g0 : mn sh m 0 ≤ d 0 := (hd.1.mnb (v := 0) (by omega) (by omega)).1
  have := off_mono_s (s := x) (s' := d) hsh ⟨by omega, by omega, by omega⟩ _ m (Nat.lt_succ_self _) hm (Int.le_refl _)
  have := hd.2
  omega
/-- how small a size is by the letters it comes to -/
theorem off_ge (hsh : ∀ j, 0 ≤ j → j < m → 0 ≤ sh j ∧ sh j ≤ 2) (hs : ∀ v : Int, 0 ≤ v → v ≤ 2 → 0 ≤ s v.toNat) {j : Int} (h0 : 0 ≤ j) (h1 : j < m) : s (sh j).toNat ≤ off sh s m := by
  have hh : ∀ j, 0 ≤ j → j < m → 0 ≤ s (sh j).toNat := fun j j0 j1 => hs _ (hsh j j0 j1).1 (hsh j j0 j1).2
  have a1 := off_mono hh (j := j + 1) (k := m) (by omega) (by omega) (by omega)
  have a2 := off_mono hh (j := 0) (k := j) (by omega) (by omega) (by omega)
  rw [off_s _ _ h0] at a1
  rw [off_0] at a2
  omega
theorem GS.sb (hsh : ∀ j, 0 ≤ j → j < m → 0 ≤ sh j ∧ sh j ≤ 2) (hs : GS sh m most s) (hM : 0 ≤ most) : ∀ v : Int, 0 ≤ v → v ≤ 2 → 0 ≤ s v.toNat ∧ s v.toNat ≤ most := by
  have h0 : ∀ v : Int, 0 ≤ v → v ≤ 2 → 0 ≤ s v.toNat := by
    intro v v0 v2
    have := (hs.1.mnb v0 v2).1
    have := mn_01 sh m v
    omega
  intro v v0 v2
  refine ⟨h0 v v0 v2, ?_⟩
  by_cases c : hV sh m v
  · obtain ⟨j, j0, j1, j2⟩ := c
    have := off_ge hsh h0 j0 j1
    have j2 : sh j = v := j2
    rw [j2] at this
    have := hs.2
    omega
  · have := (hs.1 v v0 v2).2 c
    omega
end
