/-! The machine's arithmetic against the real one's words. -/
theorem wr_eq (x : Int) : (Int32.ofInt x).toInt = wr x := by
  rw [Int32.toInt_ofInt]
  unfold wr
  simp only [Int.bmod, Int32.size]
  split <;> omega
theorem wl_eq (x : Int) : (Int64.ofInt x).toInt = wl x := by
  rw [Int64.toInt_ofInt]
  unfold wl
  simp only [Int.bmod, Int64.size]
  split <;> omega
theorem o32 {x : Int} (h : -2147483648 ≤ x ∧ x ≤ 2147483647) : (Int32.ofInt x).toInt = x := by rw [wr_eq, wr_id h]
theorem o64 {x : Int} (h : -9223372036854775808 ≤ x ∧ x ≤ 9223372036854775807) : (Int64.ofInt x).toInt = x := by rw [wl_eq, wl_id h]
theorem ofI_wr (x : Int) : Int32.ofInt (wr x) = Int32.ofInt x := by rw [← wr_eq, Int32.ofInt_toInt]
theorem ofL_wl (x : Int) : Int64.ofInt (wl x) = Int64.ofInt x := by rw [← wl_eq, Int64.ofInt_toInt]
theorem wr_rng (x : Int) : -2147483648 ≤ wr x ∧ wr x ≤ 2147483647 := by unfold wr; omega
theorem wl_rng (x : Int) : -9223372036854775808 ≤ wl x ∧ wl x ≤ 9223372036854775807 := by unfold wl; omega
theorem wb_rng (x : Int) : -128 ≤ wb x ∧ wb x ≤ 127 := by unfold wb; omega
theorem wc_rng (x : Int) : 0 ≤ wc x ∧ wc x ≤ 65535 := by unfold wc; omega
theorem i32_rng (z : Int32) : -2147483648 ≤ z.toInt ∧ z.toInt ≤ 2147483647 := by
  have := wr_rng z.toInt
  rwa [← wr_eq, Int32.ofInt_toInt] at this
theorem i64_rng (z : Int64) : -9223372036854775808 ≤ z.toInt ∧ z.toInt ≤ 9223372036854775807 := by
  have := wl_rng z.toInt
  rwa [← wl_eq, Int64.ofInt_toInt] at this
theorem cI_add (x y : Int) : Int32.ofInt (wr (x + y)) = Int32.ofInt x + Int32.ofInt y := by rw [ofI_wr, Int32.ofInt_add]
theorem cI_sub (x y : Int) : Int32.ofInt (wr (x - y)) = Int32.ofInt x - Int32.ofInt y := by rw [ofI_wr, Int32.ofInt_sub]
theorem cI_mul (x y : Int) : Int32.ofInt (wr (x * y)) = Int32.ofInt x * Int32.ofInt y := by rw [ofI_wr, Int32.ofInt_mul]
theorem cI_neg (x : Int) : Int32.ofInt (wr (-x)) = -Int32.ofInt x := by rw [ofI_wr, Int32.ofInt_neg]
theorem cL_add (x y : Int) : Int64.ofInt (wl (x + y)) = Int64.ofInt x + Int64.ofInt y := by rw [ofL_wl, Int64.ofInt_add]
theorem cL_sub (x y : Int) : Int64.ofInt (wl (x - y)) = Int64.ofInt x - Int64.ofInt y := by rw [ofL_wl, Int64.ofInt_sub]
theorem cL_mul (x y : Int) : Int64.ofInt (wl (x * y)) = Int64.ofInt x * Int64.ofInt y := by rw [ofL_wl, Int64.ofInt_mul]
theorem c32_lt {x y : Int} (hx : -2147483648 ≤ x ∧ x ≤ 2147483647) (hy : -2147483648 ≤ y ∧ y ≤ 2147483647) : Int32.ofInt x < Int32.ofInt y ↔ x < y := by rw [Int32.lt_iff_toInt_lt, o32 hx, o32 hy]
theorem c32_le {x y : Int} (hx : -2147483648 ≤ x ∧ x ≤ 2147483647) (hy : -2147483648 ≤ y ∧ y ≤ 2147483647) : Int32.ofInt x ≤ Int32.ofInt y ↔ x ≤ y := by rw [Int32.le_iff_toInt_le, o32 hx, o32 hy]
theorem c32_eq {x y : Int} (hx : -2147483648 ≤ x ∧ x ≤ 2147483647) (hy : -2147483648 ≤ y ∧ y ≤ 2147483647) : Int32.ofInt x = Int32.ofInt y ↔ x = y := by rw [← Int32.toInt_inj, o32 hx, o32 hy]
theorem c64_lt {x y : Int} (hx : -9223372036854775808 ≤ x ∧ x ≤ 9223372036854775807) (hy : -9223372036854775808 ≤ y ∧ y ≤ 9223372036854775807) : Int64.ofInt x < Int64.ofInt y ↔ x < y := by rw [Int64.lt_iff_toInt_lt, o64 hx, o64 hy]
theorem c64_eq {x y : Int} (hx : -9223372036854775808 ≤ x ∧ x ≤ 9223372036854775807) (hy : -9223372036854775808 ≤ y ∧ y ≤ 9223372036854775807) : Int64.ofInt x = Int64.ofInt y ↔ x = y := by rw [← Int64.toInt_inj, o64 hx, o64 hy]
theorem cI_div {x y : Int} (hx : -2147483648 ≤ x ∧ x ≤ 2147483647) (hy : -2147483648 ≤ y ∧ y ≤ 2147483647) : Int32.ofInt (wr (x.tdiv y)) = Int32.ofInt x / Int32.ofInt y := by
  rw [← Int32.toInt_inj, wr_eq, Int32.toInt_div, o32 hx, o32 hy]
  have h1 : wr (wr (x.tdiv y)) = wr (x.tdiv y) := wr_id (wr_rng _)
  rw [h1, ← wr_eq, Int32.toInt_ofInt]
theorem cI_rem {x y : Int} (hx : -2147483648 ≤ x ∧ x ≤ 2147483647) (hy : -2147483648 ≤ y ∧ y ≤ 2147483647) : Int32.ofInt (x.tmod y) = Int32.ofInt x - Int32.ofInt x / Int32.ofInt y * Int32.ofInt y := by
  rw [← cI_div hx hy, ofI_wr, ← Int32.ofInt_mul, ← Int32.ofInt_sub]
  congr 1
  rw [Int.tmod_def, Int.mul_comm]
theorem cI_b (x : Int) : Int32.ofInt (wb x) = (Int32.ofInt x).toInt8.toInt32 := by
  rw [← Int32.toInt_inj, wr_eq, wr_id (by have := wb_rng x; omega), Int8.toInt_toInt32, Int32.toInt_toInt8, wr_eq]
  unfold wb wr
  simp only [Int.bmod]
  split <;> omega
theorem cI_c (x : Int) : Int32.ofInt (wc x) = ((Int32.ofInt x).toUInt32 % 65536).toInt32 := by
  rw [pk_char]
  have e : (Int32.ofInt x).toBitVec.toNat = (x % 4294967296).toNat := by
    show (BitVec.ofInt 32 x).toNat = _
    rw [BitVec.toNat_ofInt]
    rfl
  rw [e]
  show _ = Int32.ofNat _
  rw [← Int32.ofInt_eq_ofNat]
  congr 1
  unfold wc
  omega
theorem cL_i (x : Int) (hx : -2147483648 ≤ x ∧ x ≤ 2147483647) : Int64.ofInt x = (Int32.ofInt x).toInt64 := by
  rw [← Int64.toInt_inj, o64 (by omega), Int32.toInt_toInt64, o32 hx]
theorem cI_l (x : Int) : Int32.ofInt (wr x) = (Int64.ofInt x).toInt32 := by
  rw [← Int32.toInt_inj, wr_eq, wr_id (wr_rng _), Int64.toInt_toInt32, wl_eq]
  unfold wr wl
  simp only [Int.bmod]
  split <;> omega
theorem cI_cmp {x y : Int} (hx : -9223372036854775808 ≤ x ∧ x ≤ 9223372036854775807) (hy : -9223372036854775808 ≤ y ∧ y ≤ 9223372036854775807) : Int32.ofInt (if x < y then -1 else if x = y then 0 else 1) = lg_cmp (Int64.ofInt x) (Int64.ofInt y) := by
  unfold lg_cmp
  by_cases h1 : y < x
  · rw [if_pos (show Int64.ofInt x > Int64.ofInt y from (c64_lt hy hx).mpr h1), if_neg (by omega), if_neg (by omega)]; rfl
  · rw [if_neg (show ¬ Int64.ofInt x > Int64.ofInt y from fun z => h1 ((c64_lt hy hx).mp z))]
    by_cases h2 : x = y
    · rw [if_pos ((c64_eq hx hy).mpr h2), if_neg (by omega), if_pos h2]; rfl
    · rw [if_neg (fun z => h2 ((c64_eq hx hy).mp z)), if_pos (by omega)]; rfl

/-- the places of the locals that hold a value -/
def zlv1 (L : List V) (i : Nat) (v : V) : Bool := match v with
  | .inl _ => true
  | .inr (.inl _) => match L[i + 1]? with
    | some (.inr (.inr (.inr _))) => true
    | _ => false
  | .inr (.inr (.inl _)) => true
  | .inr (.inr (.inr _)) => false
def zlp (ρ : Nat → Value) (L : List V) : List (Nat × Value) := (List.range L.length).filterMap (fun i => match L[i]? with
  | some v => if zlv1 L i v = true then some (i, cv ρ v) else none
  | none => none)
theorem zlp_mem {ρ : Nat → Value} {L : List V} {q : Nat × Value} : q ∈ zlp ρ L ↔ ∃ v, L[q.1]? = some v ∧ zlv1 L q.1 v = true ∧ q.2 = cv ρ v := by
  unfold zlp
  rw [List.mem_filterMap]
  constructor
  · rintro ⟨i, hi, h⟩
    split at h
    · rename_i v hv
      split at h
      · rename_i hl
        cases h
        exact ⟨v, hv, hl, rfl⟩
      · cases h
    · cases h
  · rintro ⟨v, hv, hl, he⟩
    refine ⟨q.1, List.mem_range.mpr (List.getElem?_eq_some_iff.mp hv).1, ?_⟩
    rw [hv]
    simp only [hl, if_true]
    rw [← he]
def zLoc (ρ : Nat → Value) (n : Nat) (L : List V) (ls : Array Slot) : Prop := L.length = n ∧ lv_has ls n (zlp ρ L)
theorem lv_has_mono {ls : Array Slot} {n : Nat} {l l' : List (Nat × Value)} (h : lv_has ls n l) (q : ∀ x ∈ l', x ∈ l) : lv_has ls n l' := ⟨h.1, h.2.1, fun x hx => h.2.2 x (q x hx)⟩
theorem zLoc_at {ρ : Nat → Value} {n : Nat} {L : List V} {ls : Array Slot} (h : zLoc ρ n L ls) {i : Nat} {v : V} (hv : L[i]? = some v) (hl : zlv1 L i v = true) : ls[i]? = some (.val (cv ρ v)) := h.2.2.2 (i, cv ρ v) (zlp_mem.mpr ⟨v, hv, hl, rfl⟩)
theorem zLoc_ext {ρ ρ' : Nat → Value} {n N : Nat} {L : List V} {ls : Array Slot} (h : zLoc ρ n L ls) (hρ : ∀ a, a < N → ρ' a = ρ a) (hv : ∀ v ∈ L, vok N v) : zLoc ρ' n L ls := by
  refine ⟨h.1, lv_has_mono h.2 (fun x hx => ?_)⟩
  obtain ⟨v, h1, h2, h3⟩ := zlp_mem.mp hx
  exact zlp_mem.mpr ⟨v, h1, h2, by rw [h3, cv_ext hρ (hv v (List.mem_of_getElem? h1))]⟩
theorem cat_cv {ρ : Nat → Value} {N : Nat} (hρ : ∀ a, a < N → ρ a = .null ∨ ∃ q, ρ a = .ref q) {v : V} (hv : vok N v) : (cv ρ v).category = 2 → ∃ x, v = vL x := by
  rcases v with x | x | (_ | a) | u
  · intro h; cases h
  · intro _; exact ⟨x, rfl⟩
  · intro h; cases h
  · intro h
    rcases hρ a hv with e | ⟨q, e⟩
    · rw [show cv ρ (.inr (.inr (.inl (some a)))) = ρ a from rfl, e] at h; cases h
    · rw [show cv ρ (.inr (.inr (.inl (some a)))) = ρ a from rfl, e] at h; cases h
  · intro h; cases h
/-- an int or a reference stored -/
theorem zLoc_set {ρ : Nat → Value} {n N : Nat} {L : List V} {ls' : Array Slot} {i : Nat} {v : V} (hL : L.length = n) (hρ : ∀ a, a < N → ρ a = .null ∨ ∃ q, ρ a = .ref q) (hLv : ∀ w ∈ L, vok N w) (hi : i < n) (hvj : v ≠ vJ)
    (h : lv_has ls' n ((i, cv ρ v) :: (zlp ρ L).filter (fun q => !(q.1 == i) && !(q.1 + 1 == i && q.2.category == 2)))) (hv2 : ∀ x, v ≠ vL x) : zLoc ρ n (L.set i v) ls' := by
  refine ⟨by rw [List.length_set]; exact hL, lv_has_mono h (fun q hq => ?_)⟩
  obtain ⟨w, h1, h2, h3⟩ := zlp_mem.mp hq
  by_cases hqi : q.1 = i
  · have e : w = v := by
      rw [hqi, List.getElem?_set_self (by rw [hL]; exact hi)] at h1
      exact (Option.some.inj h1).symm
    subst e
    have : q = (i, cv ρ w) := Prod.ext hqi h3
    rw [this]; exact List.mem_cons_self
  · rw [List.getElem?_set_ne (fun z => hqi z.symm)] at h1
    have hw := hLv w (List.mem_of_getElem? h1)
    have hcat : q.1 + 1 = i → ¬ q.2.category = 2 := by
      intro e c
      rw [h3] at c
      obtain ⟨x, rfl⟩ := cat_cv hρ hw c
      have h4 : (match (L.set i v)[q.1 + 1]? with | some (.inr (.inr (.inr _))) => true | _ => false) = true := h2
      rw [e, List.getElem?_set_self (by rw [hL]; exact hi)] at h4
      rcases v with a | a | a | a
      · cases h4
      · cases h4
      · cases h4
      · exact hvj rfl
    refine List.mem_cons_of_mem _ (List.mem_filter.mpr ⟨zlp_mem.mpr ⟨w, h1, ?_, h3⟩, ?_⟩)
    · rcases w with a | a | a | a
      · rfl
      · have h4 : (match (L.set i v)[q.1 + 1]? with | some (.inr (.inr (.inr _))) => true | _ => false) = true := h2
        have hne : i ≠ q.1 + 1 := by
          intro e
          exact hcat e.symm (by rw [h3]; rfl)
        rw [List.getElem?_set_ne hne] at h4
        exact h4
      · rfl
      · exact h2
    · simp only [Bool.and_eq_true, Bool.not_eq_true', beq_eq_false_iff_ne, ne_eq, Bool.and_eq_false_imp, beq_iff_eq]
      exact ⟨hqi, hcat⟩
theorem zLoc_setL {ρ : Nat → Value} {n N : Nat} {L : List V} {ls' : Array Slot} {i : Nat} {x : Int} (hL : L.length = n) (hρ : ∀ a, a < N → ρ a = .null ∨ ∃ q, ρ a = .ref q) (hLv : ∀ w ∈ L, vok N w) (hi : i + 1 < n)
    (h : lv_has ls' n ((i, cv ρ (vL x)) :: (zlp ρ L).filter (fun q => !(q.1 == i) && (!(q.1 == i + 1) && !(q.1 + 1 == i && q.2.category == 2))))) : zLoc ρ n ((L.set i (vL x)).set (i + 1) vJ) ls' := by
  refine ⟨by rw [List.length_set, List.length_set]; exact hL, lv_has_mono h (fun q hq => ?_)⟩
  obtain ⟨w, h1, h2, h3⟩ := zlp_mem.mp hq
  by_cases hqi : q.1 = i
  · have e : w = vL x := by
      rw [hqi, List.getElem?_set_ne (by omega), List.getElem?_set_self (by rw [hL]; omega)] at h1
      exact (Option.some.inj h1).symm
    subst e
    have : q = (i, cv ρ (vL x)) := Prod.ext hqi h3
    rw [this]; exact List.mem_cons_self
  · by_cases hq1 : q.1 = i + 1
    · rw [hq1, List.getElem?_set_self (by rw [List.length_set, hL]; exact hi)] at h1
      have := Option.some.inj h1
      subst this
      cases h2
    · rw [List.getElem?_set_ne (fun z => hq1 z.symm), List.getElem?_set_ne (fun z => hqi z.symm)] at h1
      have hw := hLv w (List.mem_of_getElem? h1)
      have hcat : q.1 + 1 = i → ¬ q.2.category = 2 := by
        intro e c
        rw [h3] at c
        obtain ⟨y, rfl⟩ := cat_cv hρ hw c
        have h4 : (match ((L.set i (vL x)).set (i + 1) vJ)[q.1 + 1]? with | some (.inr (.inr (.inr _))) => true | _ => false) = true := h2
        rw [e, List.getElem?_set_ne (by omega), List.getElem?_set_self (by rw [hL]; omega)] at h4
        cases h4
      refine List.mem_cons_of_mem _ (List.mem_filter.mpr ⟨zlp_mem.mpr ⟨w, h1, ?_, h3⟩, ?_⟩)
      · rcases w with a | a | a | a
        · rfl
        · have h4 : (match ((L.set i (vL x)).set (i + 1) vJ)[q.1 + 1]? with | some (.inr (.inr (.inr _))) => true | _ => false) = true := h2
          have hne : i ≠ q.1 + 1 := by
            intro e
            exact hcat e.symm (by rw [h3]; rfl)
          rw [List.getElem?_set_ne (by omega), List.getElem?_set_ne hne] at h4
          exact h4
        · rfl
        · exact h2
      · simp only [Bool.and_eq_true, Bool.not_eq_true', beq_eq_false_iff_ne, ne_eq, Bool.and_eq_false_imp, beq_iff_eq]
        exact ⟨hqi, hq1, hcat⟩
