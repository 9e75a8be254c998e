/-! Patterns by sizes, plain: offsets, what fits. -/
/-- how many letters the first k letters of a shape have by the sizes -/
def off (sh : Int → Int) (s : Nat → Int) (k : Int) : Int := if 0 < k then off sh s (k - 1) + s (sh (k - 1)).toNat else 0
termination_by k.toNat
theorem off_0 (sh : Int → Int) (s : Nat → Int) : off sh s 0 = 0 := by rw [off]; simp
theorem off_s (sh : Int → Int) (s : Nat → Int) {k : Int} (h : 0 ≤ k) : off sh s (k + 1) = off sh s k + s (sh k).toNat := by rw [off, if_pos (by omega), show k + 1 - 1 = k by omega]
theorem off_le {sh : Int → Int} {s : Nat → Int} {m : Int} (hs : ∀ j, 0 ≤ j → j < m → 0 ≤ s (sh j).toNat) : ∀ (n : Nat) (j k : Int), (k - j).toNat < n → 0 ≤ j → j ≤ k → k ≤ m → off sh s j ≤ off sh s k := by
  intro n
  induction n with
  | zero => intro j k hn; omega
  | succ n ih =>
    intro j k hn h0 h1 h2
    rcases Int.lt_or_eq_of_le h1 with c | rfl
    · have := ih j (k - 1) (by omega) h0 (by omega) (by omega)
      have e := off_s sh s (k := k - 1) (by omega)
      rw [show k - 1 + 1 = k by omega] at e
      have := hs (k - 1) (by omega) (by omega)
      omega
    · exact Int.le_refl _
theorem off_mono {sh : Int → Int} {s : Nat → Int} {m : Int} (hs : ∀ j, 0 ≤ j → j < m → 0 ≤ s (sh j).toNat) {j k : Int} (h0 : 0 ≤ j) (h1 : j ≤ k) (h2 : k ≤ m) : off sh s j ≤ off sh s k := off_le hs _ j k (Nat.lt_succ_self _) h0 h1 h2
theorem off_ub {sh : Int → Int} {s : Nat → Int} {m B : Int} (hB : 0 ≤ B) (hs : ∀ j, 0 ≤ j → j < m → 0 ≤ s (sh j).toNat ∧ s (sh j).toNat ≤ B) : ∀ (n : Nat) (k : Int), k.toNat < n → 0 ≤ k → k ≤ m → 0 ≤ off sh s k ∧ off sh s k ≤ B * k := by
  intro n
  induction n with
  | zero => intro k hn; omega
  | succ n ih =>
    intro k hn h0 h1
    rcases Int.lt_or_eq_of_le h0 with c | rfl
    · have a1 := ih (k - 1) (by omega) (by omega) (by omega)
      have e := off_s sh s (k := k - 1) (by omega)
      rw [show k - 1 + 1 = k by omega] at e
      have a2 := hs (k - 1) (by omega) (by omega)
      rw [e]
      have : B * k = B * (k - 1) + B := by rw [Int.mul_sub, Int.mul_one]; omega
      omega
    · rw [off_0]; simp
/-- the first k letters of a shape fit by sizes from a place on: the same letter, the same letters -/
def FitK (w : Nat → Int) (at_ : Int) (sh : Int → Int) (s : Nat → Int) (k : Int) : Prop := ∀ a c : Int, 0 ≤ a → a < c → c < k → sh a = sh c → ∀ i, 0 ≤ i → i < s (sh c).toNat → w (at_ + off sh s a + i).toNat = w (at_ + off sh s c + i).toNat
/-- where each letter began first, of the first k -/
def BegK (at_ : Int) (sh : Int → Int) (s : Nat → Int) (y : Nat → Int) (k : Int) : Prop := ∀ v : Int, 0 ≤ v → v ≤ 2 → (y v.toNat = -1 ∧ ∀ j, 0 ≤ j → j < k → sh j ≠ v) ∨ (∃ j, 0 ≤ j ∧ j < k ∧ sh j = v ∧ y v.toNat = at_ + off sh s j)
theorem fit_fresh {w : Nat → Int} {at_ : Int} {sh : Int → Int} {s : Nat → Int} {y : Nat → Int} {k : Int} (h0 : 0 ≤ at_) (ho : ∀ j, 0 ≤ j → j ≤ k → 0 ≤ off sh s j) (hk : 0 ≤ k) (h1 : FitK w at_ sh s k) (h2 : BegK at_ sh s y k) (hv : 0 ≤ sh k ∧ sh k ≤ 2) (hy : y (sh k).toNat = -1) : FitK w at_ sh s (k + 1) ∧ BegK at_ sh s (uf y (sh k).toNat (at_ + off sh s k)) (k + 1) := by
  have hn : ∀ j, 0 ≤ j → j < k → sh j ≠ sh k := by
    rcases h2 (sh k) hv.1 hv.2 with ⟨-, c⟩ | ⟨j, j1, j2, j3, j4⟩
    · exact c
    · have := ho j j1 (by omega); omega
  refine ⟨fun a c a0 ac ck e i i0 i1 => ?_, fun v v0 v2 => ?_⟩
  · rcases Int.lt_or_eq_of_le (Int.lt_add_one_iff.mp ck) with z | rfl
    · exact h1 a c a0 ac z e i i0 i1
    · exact absurd e (hn a a0 ac)
  · by_cases hvk : v = sh k
    · subst hvk
      exact Or.inr ⟨k, hk, by omega, rfl, by rw [uf_s]⟩
    · rw [uf_n (by omega)]
      rcases h2 v v0 v2 with ⟨c1, c2⟩ | ⟨j, j1, j2, j3, j4⟩
      · refine Or.inl ⟨c1, fun j j0 j1 => ?_⟩
        rcases Int.lt_or_eq_of_le (Int.lt_add_one_iff.mp j1) with z | rfl
        · exact c2 j j0 z
        · exact fun z => hvk z.symm
      · exact Or.inr ⟨j, j1, by omega, j3, j4⟩
theorem fit_known {w : Nat → Int} {at_ : Int} {sh : Int → Int} {s : Nat → Int} {y : Nat → Int} {k : Int} (hk : 0 ≤ k) (h1 : FitK w at_ sh s k) (h2 : BegK at_ sh s y k) (hv : 0 ≤ sh k ∧ sh k ≤ 2) (hy : y (sh k).toNat ≠ -1) (he : ∀ i, 0 ≤ i → i < s (sh k).toNat → w (y (sh k).toNat + i).toNat = w (at_ + off sh s k + i).toNat) : FitK w at_ sh s (k + 1) ∧ BegK at_ sh s y (k + 1) := by
  refine ⟨fun a c a0 ac ck e i i0 i1 => ?_, fun v v0 v2 => ?_⟩
  · rcases Int.lt_or_eq_of_le (Int.lt_add_one_iff.mp ck) with z | rfl
    · exact h1 a c a0 ac z e i i0 i1
    · rcases h2 (sh c) hv.1 hv.2 with ⟨z, -⟩ | ⟨j, j1, j2, j3, j4⟩
      · exact absurd z hy
      · rw [← he i i0 i1, j4]
        rcases Int.lt_trichotomy a j with q | q | q
        · exact h1 a j a0 q j2 (e.trans j3.symm) i i0 (by rw [j3]; exact i1)
        · rw [q]
        · exact (h1 j a j1 q ac (j3.trans e.symm) i i0 (by rw [e]; exact i1)).symm
  · rcases h2 v v0 v2 with ⟨c1, c2⟩ | ⟨j, j1, j2, j3, j4⟩
    · refine Or.inl ⟨c1, fun j j0 j1 => ?_⟩
      rcases Int.lt_or_eq_of_le (Int.lt_add_one_iff.mp j1) with z | rfl
      · exact c2 j j0 z
      · intro z; rw [z] at hy; exact hy c1
    · exact Or.inr ⟨j, j1, by omega, j3, j4⟩
theorem fit_no {w : Nat → Int} {at_ : Int} {sh : Int → Int} {s : Nat → Int} {y : Nat → Int} {k m : Int} (hkm : k < m) (h2 : BegK at_ sh s y k) (hv : 0 ≤ sh k ∧ sh k ≤ 2) (hy : y (sh k).toNat ≠ -1) {i : Int} (i0 : 0 ≤ i) (i1 : i < s (sh k).toNat) (he : w (y (sh k).toNat + i).toNat ≠ w (at_ + off sh s k + i).toNat) : ¬ FitK w at_ sh s m := by
  intro h
  rcases h2 (sh k) hv.1 hv.2 with ⟨z, -⟩ | ⟨j, j1, j2, j3, j4⟩
  · exact hy z
  · apply he
    rw [j4]
    exact h j k j1 j2 hkm j3 i i0 i1
