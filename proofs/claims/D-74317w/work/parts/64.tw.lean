/-! The reference's objects: one object (69) and fifteen arrays (70..84), overlaid on any heap: f its numbers, g its arrays. -/
def twk (j : Nat) : Nat × Nat := match j with
  | 0 => (110, 0)
  | 1 => (2, 400)
  | 2 => (1, 5)
  | 3 => (1, 198)
  | 4 => (1, 198)
  | 5 => (1, 64)
  | 6 => (1, 64)
  | 7 => (1, 650)
  | 8 => (1, 3)
  | 9 => (1, 3)
  | 10 => (1, 72)
  | 11 => (1, 384)
  | 12 => (4, 208)
  | 13 => (4, 65)
  | 14 => (3, 24)
  | _ => (1, 6)
/-- the fields that hold an array: which -/
def twr (k : Nat) : Option Nat := zlk none k [(46, some 70), (48, some 71), (54, some 72), (55, some 73), (57, some 74), (58, some 75), (61, some 76), (62, some 77), (63, some 78), (64, some 79), (71, some 80), (72, some 81), (73, some 82), (74, some 83), (76, some 84)]
def twm (f : Nat → Int) (k : Nat) : V := match twr k with
  | some a => vA (some a)
  | none => vI (f k)
def tw (b : MH) (f : Nat → Int) (g : Nat → Nat → Int) : MH := (b.1, (fun a => if 69 ≤ a ∧ a ≤ 84 then twk (a - 69) else hk b a), fun a k => if a = 69 then twm f k else if 70 ≤ a ∧ a ≤ 84 then (if a = 81 ∨ a = 82 then vL (g (a - 69) k) else vI (g (a - 69) k)) else hm b a k)
def uf (f : Nat → Int) (k : Nat) (x : Int) : Nat → Int := fun j => if j = k then x else f j
def ug (g : Nat → Nat → Int) (a i : Nat) (x : Int) : Nat → Nat → Int := fun a' i' => if a' = a ∧ i' = i then x else g a' i'
theorem uf_s (f : Nat → Int) (k : Nat) (x : Int) : uf f k x k = x := by simp [uf]
theorem uf_n {f : Nat → Int} {k j : Nat} {x : Int} (h : j ≠ k) : uf f k x j = f j := by simp [uf, h]
theorem uf_uf (f : Nat → Int) (k : Nat) (x y : Int) : uf (uf f k x) k y = uf f k y := by funext j; unfold uf; split <;> rfl
theorem uf_id (f : Nat → Int) (k : Nat) : uf f k (f k) = f := by funext j; unfold uf; split <;> simp_all
theorem ug_s (g : Nat → Nat → Int) (a i : Nat) (x : Int) : ug g a i x a i = x := by simp [ug]
theorem ug_a {g : Nat → Nat → Int} {a i a' : Nat} (i' : Nat) {x : Int} (h : a' ≠ a) : ug g a i x a' i' = g a' i' := by simp [ug, h]
theorem ug_i {g : Nat → Nat → Int} {a i : Nat} {i' : Nat} {x : Int} (h : i' ≠ i) : ug g a i x a i' = g a i' := by simp [ug, h]
theorem hn_tw (b : MH) (f : Nat → Int) (g : Nat → Nat → Int) : hn (tw b f g) = hn b := rfl
theorem hs_tw (b : MH) (f : Nat → Int) (g : Nat → Nat → Int) : hs (tw b f g) = hs b := rfl
section
variable (b : MH) (f : Nat → Int) (g : Nat → Nat → Int)
theorem tk_69 : hk (tw b f g) 69 = (110, 0) := rfl
theorem tk_70 : hk (tw b f g) 70 = (2, 400) := rfl
theorem tk_71 : hk (tw b f g) 71 = (1, 5) := rfl
theorem tk_72 : hk (tw b f g) 72 = (1, 198) := rfl
theorem tk_73 : hk (tw b f g) 73 = (1, 198) := rfl
theorem tk_74 : hk (tw b f g) 74 = (1, 64) := rfl
theorem tk_75 : hk (tw b f g) 75 = (1, 64) := rfl
theorem tk_76 : hk (tw b f g) 76 = (1, 650) := rfl
theorem tk_77 : hk (tw b f g) 77 = (1, 3) := rfl
theorem tk_78 : hk (tw b f g) 78 = (1, 3) := rfl
theorem tk_79 : hk (tw b f g) 79 = (1, 72) := rfl
theorem tk_80 : hk (tw b f g) 80 = (1, 384) := rfl
theorem tk_81 : hk (tw b f g) 81 = (4, 208) := rfl
theorem tk_82 : hk (tw b f g) 82 = (4, 65) := rfl
theorem tk_83 : hk (tw b f g) 83 = (3, 24) := rfl
theorem tk_84 : hk (tw b f g) 84 = (1, 6) := rfl
theorem tm_thrown : hm (tw b f g) 69 45 = vI (f 45) := rfl
theorem tm_taped : hm (tw b f g) 69 47 = vI (f 47) := rfl
theorem tm_point : hm (tw b f g) 69 49 = vI (f 49) := rfl
theorem tm_begin : hm (tw b f g) 69 50 = vI (f 50) := rfl
theorem tm_size : hm (tw b f g) 69 51 = vI (f 51) := rfl
theorem tm_faultAt : hm (tw b f g) 69 52 = vI (f 52) := rfl
theorem tm_fault : hm (tw b f g) 69 53 = vI (f 53) := rfl
theorem tm_hasLimit : hm (tw b f g) 69 56 = vI (f 56) := rfl
theorem tm_many : hm (tw b f g) 69 59 = vI (f 59) := rfl
theorem tm_acts : hm (tw b f g) 69 60 = vI (f 60) := rfl
theorem tm_tries : hm (tw b f g) 69 65 = vI (f 65) := rfl
theorem tm_foundMany : hm (tw b f g) 69 66 = vI (f 66) := rfl
theorem tm_isCut : hm (tw b f g) 69 67 = vI (f 67) := rfl
theorem tm_wanted : hm (tw b f g) 69 68 = vI (f 68) := rfl
theorem tm_mapNow : hm (tw b f g) 69 69 = vI (f 69) := rfl
theorem tm_isFound : hm (tw b f g) 69 70 = vI (f 70) := rfl
theorem tm_isNoCode : hm (tw b f g) 69 75 = vI (f 75) := rfl
theorem tm_tape : hm (tw b f g) 69 46 = vA (some 70) := rfl
theorem tm_five : hm (tw b f g) 69 48 = vA (some 71) := rfl
theorem tm_told : hm (tw b f g) 69 54 = vA (some 72) := rfl
theorem tm_draft : hm (tw b f g) 69 55 = vA (some 73) := rfl
theorem tm_word : hm (tw b f g) 69 57 = vA (some 74) := rfl
theorem tm_given : hm (tw b f g) 69 58 = vA (some 75) := rfl
theorem tm_past : hm (tw b f g) 69 61 = vA (some 76) := rfl
theorem tm_sizes : hm (tw b f g) 69 62 = vA (some 77) := rfl
theorem tm_begun : hm (tw b f g) 69 63 = vA (some 78) := rfl
theorem tm_row : hm (tw b f g) 69 64 = vA (some 79) := rfl
theorem tm_imaged : hm (tw b f g) 69 71 = vA (some 80) := rfl
theorem tm_counts : hm (tw b f g) 69 72 = vA (some 81) := rfl
theorem tm_sums : hm (tw b f g) 69 73 = vA (some 82) := rfl
theorem tm_hangs : hm (tw b f g) 69 74 = vA (some 83) := rfl
theorem tm_joined : hm (tw b f g) 69 76 = vA (some 84) := rfl
theorem ta_1 (i : Nat) : hm (tw b f g) 70 i = vI (g 1 i) := rfl
theorem ta_2 (i : Nat) : hm (tw b f g) 71 i = vI (g 2 i) := rfl
theorem ta_3 (i : Nat) : hm (tw b f g) 72 i = vI (g 3 i) := rfl
theorem ta_4 (i : Nat) : hm (tw b f g) 73 i = vI (g 4 i) := rfl
theorem ta_5 (i : Nat) : hm (tw b f g) 74 i = vI (g 5 i) := rfl
theorem ta_6 (i : Nat) : hm (tw b f g) 75 i = vI (g 6 i) := rfl
theorem ta_7 (i : Nat) : hm (tw b f g) 76 i = vI (g 7 i) := rfl
theorem ta_8 (i : Nat) : hm (tw b f g) 77 i = vI (g 8 i) := rfl
theorem ta_9 (i : Nat) : hm (tw b f g) 78 i = vI (g 9 i) := rfl
theorem ta_10 (i : Nat) : hm (tw b f g) 79 i = vI (g 10 i) := rfl
theorem ta_11 (i : Nat) : hm (tw b f g) 80 i = vI (g 11 i) := rfl
theorem ta_12 (i : Nat) : hm (tw b f g) 81 i = vL (g 12 i) := rfl
theorem ta_13 (i : Nat) : hm (tw b f g) 82 i = vL (g 13 i) := rfl
theorem ta_14 (i : Nat) : hm (tw b f g) 83 i = vI (g 14 i) := rfl
theorem ta_15 (i : Nat) : hm (tw b f g) 84 i = vI (g 15 i) := rfl
end
theorem tw_putf {b : MH} {f : Nat → Int} {g : Nat → Nat → Int} {k : Nat} {x : Int} (h : twr k = none) : hput (tw b f g) 69 k (vI x) = tw b (uf f k x) g := by
  refine Prod.ext rfl (Prod.ext rfl ?_)
  funext a j
  show (if a = 69 ∧ j = k then vI x else hm (tw b f g) a j) = hm (tw b (uf f k x) g) a j
  by_cases ha : a = 69
  · subst ha
    show _ = twm (uf f k x) j
    by_cases hj : j = k
    · subst hj
      rw [if_pos ⟨rfl, rfl⟩]
      unfold twm
      rw [h]
      simp [uf_s]
    · rw [if_neg (fun z => hj z.2)]
      show twm f j = _
      unfold twm
      rw [uf_n hj]
  · rw [if_neg (fun z => ha z.1)]
    show (if a = 69 then twm f j else _) = (if a = 69 then _ else _)
    rw [if_neg ha, if_neg ha]
theorem tw_putg {b : MH} {f : Nat → Int} {g : Nat → Nat → Int} {a i : Nat} {x : Int} (h1 : (70 ≤ a ∧ a ≤ 84) ∧ a ≠ 81 ∧ a ≠ 82) : hput (tw b f g) a i (vI x) = tw b f (ug g (a - 69) i x) := by
  obtain ⟨⟨h1, h2⟩, h3, h4⟩ := h1
  refine Prod.ext rfl (Prod.ext rfl ?_)
  funext a' j
  show (if a' = a ∧ j = i then vI x else hm (tw b f g) a' j) = (if a' = 69 then twm f j else if 70 ≤ a' ∧ a' ≤ 84 then (if a' = 81 ∨ a' = 82 then vL (ug g (a - 69) i x (a' - 69) j) else vI (ug g (a - 69) i x (a' - 69) j)) else hm b a' j)
  by_cases ha : a' = a ∧ j = i
  · obtain ⟨rfl, rfl⟩ := ha
    rw [if_pos ⟨rfl, rfl⟩, if_neg (by omega), if_pos ⟨h1, h2⟩, if_neg (by omega), ug_s]
  · rw [if_neg ha]
    show (if a' = 69 then twm f j else if 70 ≤ a' ∧ a' ≤ 84 then (if a' = 81 ∨ a' = 82 then vL (g (a' - 69) j) else vI (g (a' - 69) j)) else hm b a' j) = _
    by_cases hh : a' = 69
    · rw [if_pos hh, if_pos hh]
    · rw [if_neg hh, if_neg hh]
      by_cases hr : 70 ≤ a' ∧ a' ≤ 84
      · rw [if_pos hr, if_pos hr]
        have e : ug g (a - 69) i x (a' - 69) j = g (a' - 69) j := by
          unfold ug
          rw [if_neg]
          intro z
          exact ha ⟨by omega, z.2⟩
        rw [e]
      · rw [if_neg hr, if_neg hr]
theorem tw_putl {b : MH} {f : Nat → Int} {g : Nat → Nat → Int} {a i : Nat} {x : Int} (h1 : a = 81 ∨ a = 82) : hput (tw b f g) a i (vL x) = tw b f (ug g (a - 69) i x) := by
  refine Prod.ext rfl (Prod.ext rfl ?_)
  funext a' j
  show (if a' = a ∧ j = i then vL x else hm (tw b f g) a' j) = (if a' = 69 then twm f j else if 70 ≤ a' ∧ a' ≤ 84 then (if a' = 81 ∨ a' = 82 then vL (ug g (a - 69) i x (a' - 69) j) else vI (ug g (a - 69) i x (a' - 69) j)) else hm b a' j)
  by_cases ha : a' = a ∧ j = i
  · obtain ⟨rfl, rfl⟩ := ha
    rw [if_pos ⟨rfl, rfl⟩, if_neg (by omega), if_pos (by omega), if_pos h1, ug_s]
  · rw [if_neg ha]
    show (if a' = 69 then twm f j else if 70 ≤ a' ∧ a' ≤ 84 then (if a' = 81 ∨ a' = 82 then vL (g (a' - 69) j) else vI (g (a' - 69) j)) else hm b a' j) = _
    by_cases hh : a' = 69
    · rw [if_pos hh, if_pos hh]
    · rw [if_neg hh, if_neg hh]
      by_cases hr : 70 ≤ a' ∧ a' ≤ 84
      · rw [if_pos hr, if_pos hr]
        have e : ug g (a - 69) i x (a' - 69) j = g (a' - 69) j := by
          unfold ug
          rw [if_neg]
          intro z
          exact ha ⟨by omega, z.2⟩
        rw [e]
      · rw [if_neg hr, if_neg hr]
theorem tp_thrown (b : MH) (f : Nat → Int) (g : Nat → Nat → Int) (x : Int) : hput (tw b f g) 69 45 (vI x) = tw b (uf f 45 x) g := tw_putf rfl
theorem tp_taped (b : MH) (f : Nat → Int) (g : Nat → Nat → Int) (x : Int) : hput (tw b f g) 69 47 (vI x) = tw b (uf f 47 x) g := tw_putf rfl
theorem tp_point (b : MH) (f : Nat → Int) (g : Nat → Nat → Int) (x : Int) : hput (tw b f g) 69 49 (vI x) = tw b (uf f 49 x) g := tw_putf rfl
theorem tp_begin (b : MH) (f : Nat → Int) (g : Nat → Nat → Int) (x : Int) : hput (tw b f g) 69 50 (vI x) = tw b (uf f 50 x) g := tw_putf rfl
theorem tp_size (b : MH) (f : Nat → Int) (g : Nat → Nat → Int) (x : Int) : hput (tw b f g) 69 51 (vI x) = tw b (uf f 51 x) g := tw_putf rfl
theorem tp_faultAt (b : MH) (f : Nat → Int) (g : Nat → Nat → Int) (x : Int) : hput (tw b f g) 69 52 (vI x) = tw b (uf f 52 x) g := tw_putf rfl
theorem tp_fault (b : MH) (f : Nat → Int) (g : Nat → Nat → Int) (x : Int) : hput (tw b f g) 69 53 (vI x) = tw b (uf f 53 x) g := tw_putf rfl
theorem tp_hasLimit (b : MH) (f : Nat → Int) (g : Nat → Nat → Int) (x : Int) : hput (tw b f g) 69 56 (vI x) = tw b (uf f 56 x) g := tw_putf rfl
theorem tp_many (b : MH) (f : Nat → Int) (g : Nat → Nat → Int) (x : Int) : hput (tw b f g) 69 59 (vI x) = tw b (uf f 59 x) g := tw_putf rfl
theorem tp_acts (b : MH) (f : Nat → Int) (g : Nat → Nat → Int) (x : Int) : hput (tw b f g) 69 60 (vI x) = tw b (uf f 60 x) g := tw_putf rfl
theorem tp_tries (b : MH) (f : Nat → Int) (g : Nat → Nat → Int) (x : Int) : hput (tw b f g) 69 65 (vI x) = tw b (uf f 65 x) g := tw_putf rfl
theorem tp_foundMany (b : MH) (f : Nat → Int) (g : Nat → Nat → Int) (x : Int) : hput (tw b f g) 69 66 (vI x) = tw b (uf f 66 x) g := tw_putf rfl
theorem tp_isCut (b : MH) (f : Nat → Int) (g : Nat → Nat → Int) (x : Int) : hput (tw b f g) 69 67 (vI x) = tw b (uf f 67 x) g := tw_putf rfl
theorem tp_wanted (b : MH) (f : Nat → Int) (g : Nat → Nat → Int) (x : Int) : hput (tw b f g) 69 68 (vI x) = tw b (uf f 68 x) g := tw_putf rfl
theorem tp_mapNow (b : MH) (f : Nat → Int) (g : Nat → Nat → Int) (x : Int) : hput (tw b f g) 69 69 (vI x) = tw b (uf f 69 x) g := tw_putf rfl
theorem tp_isFound (b : MH) (f : Nat → Int) (g : Nat → Nat → Int) (x : Int) : hput (tw b f g) 69 70 (vI x) = tw b (uf f 70 x) g := tw_putf rfl
theorem tp_isNoCode (b : MH) (f : Nat → Int) (g : Nat → Nat → Int) (x : Int) : hput (tw b f g) 69 75 (vI x) = tw b (uf f 75 x) g := tw_putf rfl
theorem tq_1 (b : MH) (f : Nat → Int) (g : Nat → Nat → Int) (i : Nat) (x : Int) : hput (tw b f g) 70 i (vI x) = tw b f (ug g 1 i x) := tw_putg (by omega)
theorem tq_2 (b : MH) (f : Nat → Int) (g : Nat → Nat → Int) (i : Nat) (x : Int) : hput (tw b f g) 71 i (vI x) = tw b f (ug g 2 i x) := tw_putg (by omega)
theorem tq_3 (b : MH) (f : Nat → Int) (g : Nat → Nat → Int) (i : Nat) (x : Int) : hput (tw b f g) 72 i (vI x) = tw b f (ug g 3 i x) := tw_putg (by omega)
theorem tq_4 (b : MH) (f : Nat → Int) (g : Nat → Nat → Int) (i : Nat) (x : Int) : hput (tw b f g) 73 i (vI x) = tw b f (ug g 4 i x) := tw_putg (by omega)
theorem tq_5 (b : MH) (f : Nat → Int) (g : Nat → Nat → Int) (i : Nat) (x : Int) : hput (tw b f g) 74 i (vI x) = tw b f (ug g 5 i x) := tw_putg (by omega)
theorem tq_6 (b : MH) (f : Nat → Int) (g : Nat → Nat → Int) (i : Nat) (x : Int) : hput (tw b f g) 75 i (vI x) = tw b f (ug g 6 i x) := tw_putg (by omega)
theorem tq_7 (b : MH) (f : Nat → Int) (g : Nat → Nat → Int) (i : Nat) (x : Int) : hput (tw b f g) 76 i (vI x) = tw b f (ug g 7 i x) := tw_putg (by omega)
theorem tq_8 (b : MH) (f : Nat → Int) (g : Nat → Nat → Int) (i : Nat) (x : Int) : hput (tw b f g) 77 i (vI x) = tw b f (ug g 8 i x) := tw_putg (by omega)
theorem tq_9 (b : MH) (f : Nat → Int) (g : Nat → Nat → Int) (i : Nat) (x : Int) : hput (tw b f g) 78 i (vI x) = tw b f (ug g 9 i x) := tw_putg (by omega)
theorem tq_10 (b : MH) (f : Nat → Int) (g : Nat → Nat → Int) (i : Nat) (x : Int) : hput (tw b f g) 79 i (vI x) = tw b f (ug g 10 i x) := tw_putg (by omega)
theorem tq_11 (b : MH) (f : Nat → Int) (g : Nat → Nat → Int) (i : Nat) (x : Int) : hput (tw b f g) 80 i (vI x) = tw b f (ug g 11 i x) := tw_putg (by omega)
theorem tq_12 (b : MH) (f : Nat → Int) (g : Nat → Nat → Int) (i : Nat) (x : Int) : hput (tw b f g) 81 i (vL x) = tw b f (ug g 12 i x) := tw_putl (by omega)
theorem tq_13 (b : MH) (f : Nat → Int) (g : Nat → Nat → Int) (i : Nat) (x : Int) : hput (tw b f g) 82 i (vL x) = tw b f (ug g 13 i x) := tw_putl (by omega)
theorem tq_14 (b : MH) (f : Nat → Int) (g : Nat → Nat → Int) (i : Nat) (x : Int) : hput (tw b f g) 83 i (vI x) = tw b f (ug g 14 i x) := tw_putg (by omega)
theorem tq_15 (b : MH) (f : Nat → Int) (g : Nat → Nat → Int) (i : Nat) (x : Int) : hput (tw b f g) 84 i (vI x) = tw b f (ug g 15 i x) := tw_putg (by omega)
theorem zh_45_110 : zhas 45 (110, 0) = true := rfl
theorem zh_46_110 : zhas 46 (110, 0) = true := rfl
theorem zh_47_110 : zhas 47 (110, 0) = true := rfl
theorem zh_48_110 : zhas 48 (110, 0) = true := rfl
theorem zh_49_110 : zhas 49 (110, 0) = true := rfl
theorem zh_50_110 : zhas 50 (110, 0) = true := rfl
theorem zh_51_110 : zhas 51 (110, 0) = true := rfl
theorem zh_52_110 : zhas 52 (110, 0) = true := rfl
theorem zh_53_110 : zhas 53 (110, 0) = true := rfl
theorem zh_54_110 : zhas 54 (110, 0) = true := rfl
theorem zh_55_110 : zhas 55 (110, 0) = true := rfl
theorem zh_56_110 : zhas 56 (110, 0) = true := rfl
theorem zh_57_110 : zhas 57 (110, 0) = true := rfl
theorem zh_58_110 : zhas 58 (110, 0) = true := rfl
theorem zh_59_110 : zhas 59 (110, 0) = true := rfl
theorem zh_60_110 : zhas 60 (110, 0) = true := rfl
theorem zh_61_110 : zhas 61 (110, 0) = true := rfl
theorem zh_62_110 : zhas 62 (110, 0) = true := rfl
theorem zh_63_110 : zhas 63 (110, 0) = true := rfl
theorem zh_64_110 : zhas 64 (110, 0) = true := rfl
theorem zh_65_110 : zhas 65 (110, 0) = true := rfl
theorem zh_66_110 : zhas 66 (110, 0) = true := rfl
theorem zh_67_110 : zhas 67 (110, 0) = true := rfl
theorem zh_68_110 : zhas 68 (110, 0) = true := rfl
theorem zh_69_110 : zhas 69 (110, 0) = true := rfl
theorem zh_70_110 : zhas 70 (110, 0) = true := rfl
theorem zh_71_110 : zhas 71 (110, 0) = true := rfl
theorem zh_72_110 : zhas 72 (110, 0) = true := rfl
theorem zh_73_110 : zhas 73 (110, 0) = true := rfl
theorem zh_74_110 : zhas 74 (110, 0) = true := rfl
theorem zh_75_110 : zhas 75 (110, 0) = true := rfl
theorem zh_76_110 : zhas 76 (110, 0) = true := rfl
