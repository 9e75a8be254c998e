/-! Plain tools: the least number that is so, sets of letters, parts copied; what is free looks at its letters alone. -/
noncomputable def lst (R : Int → Prop) (p n : Int) : Int := @ite _ (p < n ∧ ¬ R p) (Classical.propDecidable _) (if p < n then lst R (p + 1) n else p) p
termination_by (n - p).toNat
theorem lst_t {R : Int → Prop} {p n : Int} (h : p < n) (h2 : ¬ R p) : lst R p n = lst R (p + 1) n := by rw [lst, if_pos ⟨h, h2⟩, if_pos h]
theorem lst_f {R : Int → Prop} {p n : Int} (h2 : n ≤ p ∨ R p) : lst R p n = p := by
  rw [lst, if_neg]
  rintro ⟨h3, h4⟩
  rcases h2 with c | c
  · omega
  · exact h4 c
theorem lst_s {R : Int → Prop} {n : Int} : ∀ (m : Nat) (p : Int), (n - p).toNat < m → p ≤ n → (p ≤ lst R p n ∧ lst R p n ≤ n) ∧ (∀ k, p ≤ k → k < lst R p n → ¬ R k) ∧ (lst R p n < n → R (lst R p n)) := by
  intro m
  induction m with
  | zero => intro p hm; omega
  | succ m ih =>
    intro p hm hp
    by_cases c : p < n ∧ ¬ R p
    · rw [lst_t c.1 c.2]
      obtain ⟨a, b1, b2⟩ := ih (p + 1) (by omega) (by omega)
      refine ⟨by omega, fun k k1 k2 => ?_, b2⟩
      rcases Int.lt_or_eq_of_le k1 with z | rfl
      · exact b1 k (by omega) k2
      · exact c.2
    · rw [lst_f (by by_cases q : R p; exact Or.inr q; exact Or.inl (Int.not_lt.mp (fun z => c ⟨z, q⟩)))]
      refine ⟨by omega, fun k k1 k2 => by omega, fun h => ?_⟩
      exact Classical.byContradiction (fun z => c ⟨h, z⟩)
theorem lst_r {R : Int → Prop} {p n : Int} (h : p ≤ n) : p ≤ lst R p n ∧ lst R p n ≤ n := (lst_s _ p (Nat.lt_succ_self _) h).1
theorem lst_n {R : Int → Prop} {p n : Int} (h : p ≤ n) {k : Int} (h1 : p ≤ k) (h2 : k < lst R p n) : ¬ R k := (lst_s _ p (Nat.lt_succ_self _) h).2.1 k h1 h2
theorem lst_y {R : Int → Prop} {p n : Int} (h : p ≤ n) (h1 : lst R p n < n) : R (lst R p n) := (lst_s _ p (Nat.lt_succ_self _) h).2.2 h1
theorem lst_all {R : Int → Prop} {p n : Int} (h : p ≤ n) : lst R p n = n ↔ ∀ k, p ≤ k → k < n → ¬ R k := by
  constructor
  · intro e k k1 k2
    exact lst_n h k1 (by omega)
  · intro e
    have r := lst_r (R := R) h
    rcases Int.lt_or_eq_of_le r.2 with c | c
    · exact absurd (lst_y h c) (e _ r.1 c)
    · exact c
theorem lst_eq {R : Int → Prop} {p n q : Int} (h : p ≤ n) (h1 : p ≤ q ∧ q ≤ n) (h2 : ∀ k, p ≤ k → k < q → ¬ R k) (h3 : q < n → R q) : lst R p n = q := by
  have r := lst_r (R := R) h
  rcases Int.lt_trichotomy (lst R p n) q with c | c | c
  · exact absurd (lst_y h (by omega)) (h2 _ r.1 c)
  · exact c
  · exact absurd (h3 (by omega)) (lst_n h h1.1 c)
theorem lst_c {R R' : Int → Prop} {p n : Int} (h : p ≤ n) (h2 : ∀ k, p ≤ k → k < n → (R k ↔ R' k)) : lst R p n = lst R' p n := by
  have r := lst_r (R := R') h
  refine lst_eq h r (fun k k1 k2 z => ?_) (fun z => ?_)
  · exact lst_n h k1 k2 ((h2 k k1 (by omega)).mp z)
  · exact (h2 _ r.1 z).mpr (lst_y h z)
noncomputable def bitP (R : Int → Prop) (l : Int) : Int := @ite _ (R l) (Classical.propDecidable _) (zshl 1 l) 0
theorem bitP_t {R : Int → Prop} {l : Int} (h : R l) : bitP R l = zshl 1 l := by unfold bitP; rw [if_pos h]
theorem bitP_f {R : Int → Prop} {l : Int} (h : ¬ R l) : bitP R l = 0 := by unfold bitP; rw [if_neg h]
/-- a set of the numbers from l on that are so, put to a set -/
noncomputable def setL (R : Int → Prop) (n l s : Int) : Int := if l < n then setL R n (l + 1) (zor s (bitP R l)) else s
termination_by (n - l).toNat
theorem setL_e {R : Int → Prop} {n l s : Int} (h : n ≤ l) : setL R n l s = s := by rw [setL, if_neg (by omega)]
theorem setL_t {R : Int → Prop} {n l s : Int} (h : l < n) (h2 : R l) : setL R n l s = setL R n (l + 1) (zor s (zshl 1 l)) := by rw [setL, if_pos h, bitP_t h2]
theorem setL_f {R : Int → Prop} {n l s : Int} (h : l < n) (h2 : ¬ R l) : setL R n l s = setL R n (l + 1) (zor s 0) := by rw [setL, if_pos h, bitP_f h2]
theorem setL_c {R R' : Int → Prop} {n : Int} (h2 : ∀ k, 0 ≤ k → k < n → (R k ↔ R' k)) : ∀ (m : Nat) (l s : Int), (n - l).toNat < m → 0 ≤ l → setL R n l s = setL R' n l s := by
  intro m
  induction m with
  | zero => intro l s hm; omega
  | succ m ih =>
    intro l s hm hl
    rcases Int.lt_or_le l n with c | c
    · by_cases q : R l
      · rw [setL_t c q, setL_t c ((h2 l hl c).mp q)]; exact ih _ _ (by omega) (by omega)
      · rw [setL_f c q, setL_f c (fun z => q ((h2 l hl c).mpr z))]; exact ih _ _ (by omega) (by omega)
    · rw [setL_e c, setL_e c]
/-- the numbers of one ahead of a place, those of the other one from it on -/
def mix (n : Int) (w x : Nat → Int) : Nat → Int := fun i => if (i : Int) < n then w i else x i
theorem mix_0 (w x : Nat → Int) : mix 0 w x = x := by funext i; unfold mix; rw [if_neg (by omega)]
theorem mix_s {n : Int} {w x : Nat → Int} (h : 0 ≤ n) : uf (mix n w x) n.toNat (w n.toNat) = mix (n + 1) w x := by
  funext i
  unfold uf mix
  by_cases c : i = n.toNat
  · subst c; rw [if_pos rfl, if_pos (by omega)]
  · rw [if_neg c]
    by_cases q : (i : Int) < n
    · rw [if_pos q, if_pos (by omega)]
    · rw [if_neg q, if_neg (by omega)]
theorem mix_l {n : Int} {w x : Nat → Int} {i : Nat} (h : (i : Int) < n) : mix n w x i = w i := if_pos h
theorem mix_g {n : Int} {w x : Nat → Int} {i : Nat} (h : n ≤ (i : Int)) : mix n w x i = x i := if_neg (by omega)
/-- two rows are alike up to a place -/
def Al (n : Int) (w w' : Nat → Int) : Prop := ∀ i : Nat, (i : Int) < n → w i = w' i
theorem Al.symm {n : Int} {w w' : Nat → Int} (h : Al n w w') : Al n w' w := fun i hi => (h i hi).symm
theorem Al.trans {n : Int} {w w' w'' : Nat → Int} (h : Al n w w') (h' : Al n w' w'') : Al n w w'' := fun i hi => (h i hi).trans (h' i hi)
theorem Al.le {n m : Int} {w w' : Nat → Int} (h : Al n w w') (hm : m ≤ n) : Al m w w' := fun i hi => h i (by omega)
theorem Al.rfl {n : Int} {w : Nat → Int} : Al n w w := fun _ _ => Eq.refl _
theorem Al.ufb {n : Int} {w w' : Nat → Int} (h : Al n w w') (hn : 0 ≤ n) (v : Int) : Al (n + 1) (uf w n.toNat v) (uf w' n.toNat v) := by
  intro i hi
  by_cases c : i = n.toNat
  · rw [c, uf_s, uf_s]
  · rw [uf_n c, uf_n c]; exact h i (by omega)
theorem Al.mix {n : Int} {w x : Nat → Int} : Al n (mix n w x) w := fun _ hi => mix_l hi
theorem eb_c {w w' : Nat → Int} {n p : Int} (h : Al n w w') (hp : 1 ≤ p) : ∀ (m : Nat) (k : Int), (n - k).toNat < m → p ≤ k → eb w n p k = eb w' n p k := by
  intro m
  induction m with
  | zero => intro k hm; omega
  | succ m ih =>
    intro k hm hk
    rw [eb, eb.eq_1 w']
    by_cases c : k < n
    · rw [h (n - 1 - k).toNat (by omega), h (n - 1 - k + p).toNat (by omega), ih (k + 1) (by omega) (by omega)]
    · rw [if_neg (by omega), if_neg (by omega)]
theorem xE_c {a b : Int} {R R' : Int → Prop} (h : ∀ q, a ≤ q → q < b → (R q ↔ R' q)) : xE a b R ↔ xE a b R' := ⟨fun ⟨q, h1, h2, h3⟩ => ⟨q, h1, h2, (h q h1 h2).mp h3⟩, fun ⟨q, h1, h2, h3⟩ => ⟨q, h1, h2, (h q h1 h2).mpr h3⟩⟩
theorem Rep_c {t w w' : Nat → Int} {n : Int} (h : Al n w w') : Rep t w n ↔ Rep t w' n := xE_c (fun q h1 h2 => by rw [eb_c h h1 _ q (Nat.lt_succ_self _) (Int.le_refl _)])
theorem FitK_c {w w' : Nat → Int} {at_ m n : Int} {sh : Int → Int} {s : Nat → Int} (h : Al n w w') (hs : ∀ j, 0 ≤ j → j < m → 0 ≤ s (sh j).toNat) (h0 : 0 ≤ at_) (h1 : at_ + off sh s m ≤ n) (hm : 0 ≤ m) : FitK w at_ sh s m → FitK w' at_ sh s m := by
  intro hf a c a0 ac cm e i i0 i1
  have o1 := off_mono hs (j := a + 1) (k := m) (by omega) (by omega) (by omega)
  have o2 := off_mono hs (j := c + 1) (k := m) (by omega) (by omega) (by omega)
  have o3 := off_mono hs (j := 0) (k := a) (by omega) (by omega) (by omega)
  have o4 := off_mono hs (j := 0) (k := c) (by omega) (by omega) (by omega)
  rw [off_s _ _ a0, e] at o1
  rw [off_s _ _ (by omega)] at o2
  rw [off_0] at o3 o4
  rw [← h (at_ + off sh s a + i).toNat (by omega), ← h (at_ + off sh s c + i).toNat (by omega)]
  exact hf a c a0 ac cm e i i0 i1
theorem EndsP_c {t w w' : Nat → Int} {n p : Int} (T : TI t) (h : Al n w w') (h0 : 0 ≤ p) (h1 : p < t 5) (hn : 0 ≤ n) : EndsP t w n p → EndsP t w' n p := by
  rintro ⟨s, hs, hf⟩
  have p2 := T.pm h0 h1
  have sb := hs.sb (T.sh h0 h1) hn
  exact ⟨s, hs, FitK_c h (fun j j0 j1 => (sb _ (T.ps h0 h1 j0 j1).1 (T.ps h0 h1 j0 j1).2).1) (by have := hs.2; omega) (by omega) (by omega) hf⟩
theorem FreeE_c {t w w' : Nat → Int} {n : Int} (T : TI t) (h : Al n w w') (hn : 0 ≤ n) : FreeE t w n ↔ FreeE t w' n := by
  unfold FreeE
  rw [propext (Rep_c h), propext (xE_c (R' := fun p => t (194 + p).toNat = 1 ∧ EndsP t w' n p) (fun q h1 h2 => ⟨fun z => ⟨z.1, EndsP_c T h h1 h2 hn z.2⟩, fun z => ⟨z.1, EndsP_c T h.symm h1 h2 hn z.2⟩⟩))]
theorem freeN_c {t w w' : Nat → Int} {n : Int} (T : TI t) (h : Al n w w') : ∀ (m : Nat) (k : Int), (n - k).toNat < m → 0 ≤ k → freeN t w n k = freeN t w' n k := by
  intro m
  induction m with
  | zero => intro k hm; omega
  | succ m ih =>
    intro k hm hk
    by_cases c : k < n
    · have e := FreeE_c T (h.le (m := k + 1) (by omega)) (by omega)
      by_cases q : FreeE t w (k + 1)
      · rw [freeN_t c q, freeN_t c (e.mp q)]; exact ih (k + 1) (by omega) (by omega)
      · rw [freeN_f (fun z => q z.2), freeN_f (fun z => q (e.mpr z.2))]
    · rw [freeN_f (fun z => c z.1), freeN_f (fun z => c z.1)]
