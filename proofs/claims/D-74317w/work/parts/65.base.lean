/-! Runs with one end; small tools of the walks. -/
abbrev ZR : Type := Nat → Nat → Nat → List V → List V → MH → (ZO → MH → Prop) → Prop
def zCj (R : ZR) : Prop := ∀ k lv pc L S h (P P' : ZO → MH → Prop), R k lv pc L S h P → R k lv pc L S h P' → ∃ o h', P o h' ∧ P' o h'
theorem zcall_conj {R : ZR} (hR : zCj R) {k lv pc nx m n : Nat} {L S : List V} {h : MH} {Q Q' : ZO → MH → Prop} (q : zcall R k lv pc nx m n L S h Q) (q' : zcall R k lv pc nx m n L S h Q') : ∃ o h', Q o h' ∧ Q' o h' := by
  unfold zcall at q q'
  split at q
  · exact q.elim
  · rename_i as S' hpop
    rw [hpop] at q'
    obtain ⟨o, h1, e1, e2⟩ := hR _ _ _ _ _ _ _ _ q.2 q'.2
    split at e1
    · exact hR _ _ _ _ _ _ _ _ e1 e2
    · exact hR _ _ _ _ _ _ _ _ e1 e2
    · rename_i e0
      cases ht : zHF pc (hk h1 e0).1 (zHD k) with
      | some t =>
        simp only [ht] at e1 e2
        exact hR _ _ _ _ _ _ _ _ e1 e2
      | none =>
        simp only [ht] at e1 e2
        exact ⟨_, _, e1, e2⟩
theorem zstep_conj {R : ZR} (hR : zCj R) {k lv pc nx : Nat} {i : Instr} {L S : List V} {h : MH} {Q Q' : ZO → MH → Prop} (q : zstep R k lv pc nx i L S h Q) (q' : zstep R k lv pc nx i L S h Q') : ∃ o h', Q o h' ∧ Q' o h' := by
  unfold zstep at q
  split at q
  · split at q
    · exact ⟨_, _, q, q'⟩
    · exact q.elim
  · split at q
    · exact ⟨_, _, q.2, q'.2⟩
    · exact q.elim
  · split at q
    · exact ⟨_, _, q, q'⟩
    · exact q.elim
  · split at q
    · exact ⟨_, _, q, q'⟩
    · exact q.elim
  · split at q
    · obtain ⟨q0, q⟩ := q
      have q' := q'.2
      split at q
      · rename_i t ht
        simp only [ht] at q'
        exact hR _ _ _ _ _ _ _ _ q q'
      · rename_i ht
        simp only [ht] at q'
        exact ⟨_, _, q, q'⟩
    · exact q.elim
  · exact zcall_conj hR q q'
  · unfold zstep at q'
    split at q
    · rename_i a ha
      simp only [ha] at q'
      exact zcall_conj hR q.2 q'.2
    · exact q.elim
  · unfold zstep at q'
    split at q
    · rename_i a ha
      simp only [ha] at q'
      split at q
      · rename_i m hm
        simp only [hm] at q'
        exact zcall_conj hR q q'
      · exact q.elim
    · exact q.elim
  · unfold zstep at q'
    split at q
    · rename_i a ha
      simp only [ha] at q'
      split at q
      · rename_i m hm
        simp only [hm] at q'
        exact zcall_conj hR q q'
      · exact q.elim
    · exact q.elim
  · rename_i i h1 h2 h3 h4 h5 h6 h7 h8 h9
    unfold zstep at q'
    split at q
    · rename_i hp
      split at q'
      all_goals first
        | exact (h1 rfl).elim | exact (h2 rfl).elim | exact (h3 rfl).elim | exact (h4 rfl).elim | exact (h5 rfl).elim
        | exact (h6 _ rfl).elim | exact (h7 _ rfl).elim | exact (h8 _ rfl).elim | exact (h9 _ _ rfl).elim
        | (rw [hp] at q'; exact hR _ _ _ _ _ _ _ _ q q')
    · exact q.elim
theorem WPn_conj : ∀ n, zCj (WPn n) := by
  intro n
  induction n with
  | zero => intro k lv pc L S h P P' q; exact q.elim
  | succ n ih =>
    intro k lv pc L S h P P' q q'
    unfold WPn at q q'
    split at q
    · rename_i hc
      rw [hc] at q'
      exact zstep_conj ih q q'
    · exact q.elim
def zD (o : ZO) (h : MH) : ZO → MH → Prop := fun o' h' => o' = o ∧ h' = h
theorem wp_iff {k lv pc : Nat} {L S : List V} {h h1 : MH} {o : ZO} {Q : ZO → MH → Prop} (q : WP k lv pc L S h (zD o h1)) : WP k lv pc L S h Q ↔ Q o h1 := by
  constructor
  · rintro ⟨n, q1⟩
    obtain ⟨m, q2⟩ := q
    obtain ⟨o', h', e, ⟨rfl, rfl⟩⟩ := WPn_conj (n + m) _ _ _ _ _ _ _ _ (WPn_le (Nat.le_add_right n m) q1) (WPn_le (Nat.le_add_left m n) q2)
    exact e
  · intro e
    exact WP_post q (fun o' h' z => by obtain ⟨rfl, rfl⟩ := z; exact e)
theorem znc : zNC = 55 := rfl
def zb (p : Prop) [Decidable p] : Int := if p then 1 else 0
theorem zb_t {p : Prop} [Decidable p] (h : p) : zb p = 1 := if_pos h
theorem zb_f {p : Prop} [Decidable p] (h : ¬ p) : zb p = 0 := if_neg h
theorem zb_0 {p : Prop} [Decidable p] : (zb p = 0) = ¬ p := by unfold zb; split <;> simp_all
theorem zb_n0 {p : Prop} [Decidable p] : (zb p = 1) = p := by unfold zb; split <;> simp_all
theorem zb_01 {p : Prop} [Decidable p] : (zb p = 0 ∨ zb p = 1) = True := by unfold zb; split <;> simp
theorem zif_iff {c A B R : Prop} (h1 : c → (A ↔ R)) (h2 : ¬ c → (B ↔ R)) : zif c A B ↔ R := by
  by_cases h : c
  · rw [zif_t h]; exact h1 h
  · rw [zif_f h]; exact h2 h
theorem zif_in {c A B : Prop} (h1 : c → A) (h2 : ¬ c → B) : zif c A B := by
  by_cases h : c
  · rw [zif_t h]; exact h1 h
  · rw [zif_f h]; exact h2 h
theorem and_iff' {C A R : Prop} (h : C) (h2 : A ↔ R) : (C ∧ A) ↔ R := ⟨fun z => h2.mp z.2, fun z => ⟨h, h2.mpr z⟩⟩
