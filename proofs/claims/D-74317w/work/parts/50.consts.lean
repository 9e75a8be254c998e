/-! The mini start and the real one. -/
set_option maxRecDepth 100000
def hcK (L a : Nat) : Nat × Nat := if a < 3 then (0, 0) else if a = 3 then (8, 256) else if a < 38 then (if a % 2 = 0 then (117, 0) else (2, (zTX.getD ((a - 5) / 2) []).length)) else if a < 54 then (118, 0) else if a = 54 then (1, L) else (0, 0)
def hcM (xs : Nat → Int) (a k : Nat) : V := if a = 3 then vA (some (38 + (k - 128))) else if a < 38 then (if a % 2 = 0 then (if k = 99 then vA (some (a + 1)) else vI 0) else vI (((zTX.getD ((a - 5) / 2) []).getD k 0 : Nat) : Int)) else if a < 54 then vI ((a : Int) - 38) else vI (xs k)
def hcs (L : Nat) (xs : Nat → Int) : MH := ((55, 0), hcK L, hcM xs)
def zRho (u0 u1 u2 : Value) (bC : Nat) (q : Nat → Nat × Nat) (ad : Nat → Nat) (b : Nat) (a : Nat) : Value := if a = 0 then u0 else if a = 1 then u1 else if a = 2 then u2 else if a = 3 then .ref bC else if a < 38 then (if a % 2 = 0 then .ref (q ((a - 4) / 2)).1 else .ref (q ((a - 5) / 2)).2) else if a < 54 then .ref (ad (128 + (a - 38))) else if a = 54 then .ref b else .null
theorem ca_ref {ρ : Nat → Value} {a X : Nat} (h : ρ a = .ref X) : ca ρ a = X := by unfold ca; rw [h]
theorem zTX_ok : zTX.all (fun t => decide (t.length ≤ 25) && t.all (fun n => decide (n ≤ 127))) = true := by decide +kernel
theorem zTX_len (j : Nat) : (zTX.getD j []).length ≤ 25 := by
  rw [List.getD_eq_getElem?_getD]
  cases h : zTX[j]? with
  | none => exact Nat.zero_le _
  | some t =>
    have := List.all_eq_true.mp zTX_ok t (List.mem_of_getElem? h)
    rw [Bool.and_eq_true, decide_eq_true_eq] at this
    exact this.1
theorem zTX_le (j i : Nat) : (zTX.getD j []).getD i 0 ≤ 127 := by
  rw [List.getD_eq_getElem?_getD, List.getD_eq_getElem?_getD]
  cases h : zTX[j]? with
  | none => simp
  | some t =>
    have := List.all_eq_true.mp zTX_ok t (List.mem_of_getElem? h)
    rw [Bool.and_eq_true] at this
    cases h2 : t[i]? with
    | none => simp [h2]
    | some n =>
      have := List.all_eq_true.mp this.2 n (List.mem_of_getElem? h2)
      simpa [h2] using of_decide_eq_true this
def zOw (j : Nat) : String × Nat := match j with
  | 0 => ("RepeatFree$Reader", 9)
  | 1 => ("RepeatFree$Reader", 11)
  | 2 => ("RepeatFree$Reader", 13)
  | 3 => ("RepeatFree$Reader", 15)
  | 4 => ("RepeatFree$Reader", 17)
  | 5 => ("RepeatFree$Reader", 19)
  | 6 => ("RepeatFree$Reader", 21)
  | 7 => ("RepeatFree$Reader", 23)
  | 8 => ("java/util/Arrays", 337)
  | 9 => ("jdk/internal/util/ArraysSupport", 92)
  | 10 => ("java/util/LinkedList", 100)
  | 11 => ("java/util/LinkedList", 109)
  | 12 => ("java/lang/Throwable", 81)
  | 13 => ("java/util/ArrayDeque", 35)
  | 14 => ("java/util/BitSet", 153)
  | 15 => ("java/util/BitSet", 144)
  | _ => ("RepeatFree", 456)
section
variable {args : Array Value} {s : State} {A : Nat → Prop}
theorem zstrs (hN : narrow_1.before args s = true) (hA : ∀ a : Nat, a < s.heap.size → ¬ A a) : ∃ q : Nat → Nat × Nat, ∀ j, j < 17 → zSt1 (zOw j).1 (zOw j).2 (zTX.getD j []) A args s (q j).1 (q j).2 := by
  have h0 : ∀ j : Nat, ∃ q : Nat × Nat, j < 17 → zSt1 (zOw j).1 (zOw j).2 (zTX.getD j []) A args s q.1 q.2 := by
    intro j
    by_cases hj : j < 17
    · rcases (show j = 0 ∨ j = 1 ∨ j = 2 ∨ j = 3 ∨ j = 4 ∨ j = 5 ∨ j = 6 ∨ j = 7 ∨ j = 8 ∨ j = 9 ∨ j = 10 ∨ j = 11 ∨ j = 12 ∨ j = 13 ∨ j = 14 ∨ j = 15 ∨ j = 16 by omega) with rfl | rfl | rfl | rfl | rfl | rfl | rfl | rfl | rfl | rfl | rfl | rfl | rfl | rfl | rfl | rfl | rfl
      · obtain ⟨a, t, h⟩ := zstr0 hN hA
        exact ⟨(a, t), fun _ => h⟩
      · obtain ⟨a, t, h⟩ := zstr1 hN hA
        exact ⟨(a, t), fun _ => h⟩
      · obtain ⟨a, t, h⟩ := zstr2 hN hA
        exact ⟨(a, t), fun _ => h⟩
      · obtain ⟨a, t, h⟩ := zstr3 hN hA
        exact ⟨(a, t), fun _ => h⟩
      · obtain ⟨a, t, h⟩ := zstr4 hN hA
        exact ⟨(a, t), fun _ => h⟩
      · obtain ⟨a, t, h⟩ := zstr5 hN hA
        exact ⟨(a, t), fun _ => h⟩
      · obtain ⟨a, t, h⟩ := zstr6 hN hA
        exact ⟨(a, t), fun _ => h⟩
      · obtain ⟨a, t, h⟩ := zstr7 hN hA
        exact ⟨(a, t), fun _ => h⟩
      · obtain ⟨a, t, h⟩ := zstr8 hN hA
        exact ⟨(a, t), fun _ => h⟩
      · obtain ⟨a, t, h⟩ := zstr9 hN hA
        exact ⟨(a, t), fun _ => h⟩
      · obtain ⟨a, t, h⟩ := zstr10 hN hA
        exact ⟨(a, t), fun _ => h⟩
      · obtain ⟨a, t, h⟩ := zstr11 hN hA
        exact ⟨(a, t), fun _ => h⟩
      · obtain ⟨a, t, h⟩ := zstr12 hN hA
        exact ⟨(a, t), fun _ => h⟩
      · obtain ⟨a, t, h⟩ := zstr13 hN hA
        exact ⟨(a, t), fun _ => h⟩
      · obtain ⟨a, t, h⟩ := zstr14 hN hA
        exact ⟨(a, t), fun _ => h⟩
      · obtain ⟨a, t, h⟩ := zstr15 hN hA
        exact ⟨(a, t), fun _ => h⟩
      · obtain ⟨a, t, h⟩ := zstr16 hN hA
        exact ⟨(a, t), fun _ => h⟩
    · exact ⟨(0, 0), fun h => absurd h hj⟩
  exact Classical.axiomOfChoice h0
theorem zZq {C n d : String} {H : Heap} (h : va_Zq C n d A s H) : ∃ u : Value, (u = .null ∨ ∃ t, u = .ref t) ∧ va_Z C n d u A s H := by
  rcases h with h | ⟨t, h⟩
  · exact ⟨_, Or.inl rfl, h⟩
  · exact ⟨_, Or.inr ⟨t, rfl⟩, h⟩
theorem zCon_start {b L : Nat} {xs : Nat → Int32} (hts : ∀ w, w ∈ lw_tbl → w.before args s = true) (hN : narrow_1.before args s = true) (hX : va_X b L xs s s.heap) (hb : b < s.heap.size) (hL : L ≤ 144) (hA : ∀ a : Nat, a < s.heap.size → ¬ A a) : ∃ ρ : Nat → Value, ρ 54 = .ref b ∧ (∀ a, a < 55 → ρ a = .null ∨ ∃ q, ρ a = .ref q) ∧ zCon zSR A ρ (hcs L (fun j => (xs j).toInt)) s := by
  obtain ⟨q, hq⟩ := zstrs hN hA
  obtain ⟨ad, bC, hc1, hc2, hc3⟩ := zcache hN hA
  have z0 : vx_Zq Bundle.tN "UNASSIGNED_STACK" Bundle.steD A s s.heap := vx_Zqof (hts _ q375) (hts _ (lw_all_tbl q143)) (bL (bR (bL (bL (bL (bL (bL (bL (bL hN))))))))) hA
  have z1 : vx_Zq Bundle.tN "SUPPRESSED_SENTINEL" Bundle.listD A s s.heap := vx_Zqof (hts _ q377) (hts _ (lw_all_tbl q143)) (bL (bR (bR (bL (bL (bL (bL (bL (bL (bL hN)))))))))) hA
  have z2 : va_Zq "jdk/internal/util/Preconditions" "SIOOBE_FORMATTER" "Ljava/util/function/BiFunction;" A s s.heap := va_Zqof (hts _ q485) (hts _ (lw_all_tbl q142)) (bL (bL (bR (bL (bL (bL (bL (bL (bL hN))))))))) hA
  obtain ⟨u0, hu0, hz0⟩ := zZq z0.1
  obtain ⟨u1, hu1, hz1⟩ := zZq z1.1
  obtain ⟨u2, hu2, hz2⟩ := zZq z2
  have r3 : zRho u0 u1 u2 bC q ad b 3 = .ref bC := rfl
  have rS : ∀ a, 4 ≤ a → a < 38 → a % 2 = 0 → zRho u0 u1 u2 bC q ad b a = .ref (q ((a - 4) / 2)).1 := fun a h1 h2 h3 => by
    unfold zRho
    rw [if_neg (by omega), if_neg (by omega), if_neg (by omega), if_neg (by omega), if_pos h2, if_pos h3]
  have rV : ∀ a, 4 ≤ a → a < 38 → ¬ a % 2 = 0 → zRho u0 u1 u2 bC q ad b a = .ref (q ((a - 5) / 2)).2 := fun a h1 h2 h3 => by
    unfold zRho
    rw [if_neg (by omega), if_neg (by omega), if_neg (by omega), if_neg (by omega), if_pos h2, if_neg h3]
  have rI : ∀ a, 38 ≤ a → a < 54 → zRho u0 u1 u2 bC q ad b a = .ref (ad (128 + (a - 38))) := fun a h1 h2 => by
    unfold zRho
    rw [if_neg (by omega), if_neg (by omega), if_neg (by omega), if_neg (by omega), if_neg (by omega), if_pos h2]
  have r54 : zRho u0 u1 u2 bC q ad b 54 = .ref b := rfl
  have kS : ∀ a, 4 ≤ a → a < 38 → a % 2 = 0 → hcK L a = (117, 0) := fun a h1 h2 h3 => by
    unfold hcK
    rw [if_neg (by omega), if_neg (by omega), if_pos h2, if_pos h3]
  have kV : ∀ a, 4 ≤ a → a < 38 → ¬ a % 2 = 0 → hcK L a = (2, (zTX.getD ((a - 5) / 2) []).length) := fun a h1 h2 h3 => by
    unfold hcK
    rw [if_neg (by omega), if_neg (by omega), if_pos h2, if_neg h3]
  have kI : ∀ a, 38 ≤ a → a < 54 → hcK L a = (118, 0) := fun a h1 h2 => by
    unfold hcK
    rw [if_neg (by omega), if_neg (by omega), if_neg (by omega), if_pos h2]
  have k0 : ∀ a, a < 3 → hcK L a = (0, 0) := fun a h1 => by unfold hcK; rw [if_pos h1]
  have k3 : hcK L 3 = (8, 256) := rfl
  have k54 : hcK L 54 = (1, L) := rfl
  have ek : hk (hcs L (fun j => (xs j).toInt)) = hcK L := rfl
  have em : hm (hcs L (fun j => (xs j).toInt)) = hcM (fun j => (xs j).toInt) := rfl
  have mS : ∀ a k, 4 ≤ a → a < 38 → a % 2 = 0 → hcM (fun j => (xs j).toInt) a k = if k = 99 then vA (some (a + 1)) else vI 0 := fun a k h1 h2 h3 => by
    unfold hcM
    rw [if_neg (by omega), if_pos h2, if_pos h3]
  have mV : ∀ a k, 4 ≤ a → a < 38 → ¬ a % 2 = 0 → hcM (fun j => (xs j).toInt) a k = vI (((zTX.getD ((a - 5) / 2) []).getD k 0 : Nat) : Int) := fun a k h1 h2 h3 => by
    unfold hcM
    rw [if_neg (by omega), if_pos h2, if_neg h3]
  have mI : ∀ a k, 38 ≤ a → a < 54 → hcM (fun j => (xs j).toInt) a k = vI ((a : Int) - 38) := fun a k h1 h2 => by
    unfold hcM
    rw [if_neg (by omega), if_neg (by omega), if_pos h2]
  have hcases : ∀ a, 3 ≤ a → a < 55 → a = 3 ∨ (4 ≤ a ∧ a < 38 ∧ a % 2 = 0) ∨ (4 ≤ a ∧ a < 38 ∧ ¬ a % 2 = 0) ∨ (38 ≤ a ∧ a < 54) ∨ a = 54 := fun a h1 h2 => by omega
  obtain ⟨scr, x1, x2, x3, x4, x5⟩ := hX
  refine ⟨zRho u0 u1 u2 bC q ad b, r54, fun a ha => ?_, fun a a3 a55 => ?_, fun a a55 hk0 => ?_, fun a a55 hk1 hk7 => ?_, fun a a55 hk8 => ?_, fun q0 hq9 => ?_, ?_, z0, z1⟩
  · rcases (show a = 0 ∨ a = 1 ∨ a = 2 ∨ 3 ≤ a by omega) with rfl | rfl | rfl | h3
    · exact hu0
    · exact hu1
    · exact hu2
    · rcases hcases a h3 ha with rfl | ⟨h1, h2, h4⟩ | ⟨h1, h2, h4⟩ | ⟨h1, h2⟩ | rfl
      · exact Or.inr ⟨_, r3⟩
      · exact Or.inr ⟨_, rS a h1 h2 h4⟩
      · exact Or.inr ⟨_, rV a h1 h2 h4⟩
      · exact Or.inr ⟨_, rI a h1 h2⟩
      · exact Or.inr ⟨_, r54⟩
  · rcases hcases a a3 a55 with rfl | ⟨h1, h2, h4⟩ | ⟨h1, h2, h4⟩ | ⟨h1, h2⟩ | rfl
    · rw [ca_ref r3]
      exact ⟨r3, by obtain ⟨c, -, -, -, -, -, -, h⟩ := hc3; exact h⟩
    · rw [ca_ref (rS a h1 h2 h4)]
      exact ⟨rS a h1 h2 h4, by obtain ⟨-, ⟨c, -, -, -, h⟩, -⟩ := hq ((a - 4) / 2) (by omega); exact h⟩
    · rw [ca_ref (rV a h1 h2 h4)]
      exact ⟨rV a h1 h2 h4, by obtain ⟨-, -, -, -, ⟨c, -, -, -, -, -, -, h⟩⟩ := hq ((a - 5) / 2) (by omega); exact h⟩
    · rw [ca_ref (rI a h1 h2)]
      exact ⟨rI a h1 h2, by obtain ⟨c, -, -, -, h⟩ := hc1.1 (128 + (a - 38)) (by omega); exact h⟩
    · rw [ca_ref r54]
      exact ⟨r54, hA b hb⟩
  · rw [ek] at hk0 ⊢
    rw [em]
    have h3 : 3 ≤ a := by
      rcases Nat.lt_or_ge a 3 with z | z
      · rw [k0 a z] at hk0; exact absurd hk0 (by decide)
      · exact z
    rcases hcases a h3 a55 with rfl | ⟨h1, h2, h4⟩ | ⟨h1, h2, h4⟩ | ⟨h1, h2⟩ | rfl
    · rw [k3] at hk0; exact absurd hk0 (by decide)
    · rw [kS a h1 h2 h4, ca_ref (rS a h1 h2 h4)]
      obtain ⟨s1, s2, s3, s4, s5⟩ := hq ((a - 4) / 2) (by omega)
      refine ⟨⟨h3, Or.inl rfl⟩, s2, fun f hf f1 f2 => ?_⟩
      have hf : f ∈ [99, 100, 101, 102] := hf
      have hf : f = 99 ∨ f = 100 := by
        rcases List.mem_cons.mp hf with z | hf
        · exact Or.inl z
        · rcases List.mem_cons.mp hf with z | hf
          · exact Or.inr z
          · rcases List.mem_cons.mp hf with z | hf
            · exact absurd z f1
            · rcases List.mem_cons.mp hf with z | hf
              · exact absurd z f2
              · cases hf
      rw [mS a f h1 h2 h4]
      rcases hf with rfl | rfl
      · rw [if_pos rfl]
        refine ⟨vok_a (fun c z => by cases z; omega), ?_⟩
        have e : cv (zRho u0 u1 u2 bC q ad b) (vA (some (a + 1))) = .ref (q ((a - 4) / 2)).2 := by
          show zRho u0 u1 u2 bC q ad b (a + 1) = _
          rw [rV (a + 1) (by omega) (by omega) (by omega), show a + 1 - 5 = a - 4 by omega]
        rw [e]
        exact s4
      · rw [if_neg (by omega)]
        exact ⟨vok_i (by omega), s3⟩
    · rw [kV a h1 h2 h4] at hk0; exact absurd hk0 (by show ¬ 100 ≤ 2; omega)
    · rw [kI a h1 h2, ca_ref (rI a h1 h2)]
      refine ⟨⟨h3, Or.inr rfl⟩, hc1.1 (128 + (a - 38)) (by omega), fun f hf f1 f2 => ?_⟩
      have hf : f ∈ [103] := hf
      have hf : f = 103 := by
        rcases List.mem_cons.mp hf with z | hf
        · exact z
        · cases hf
      subst hf
      rw [mI a 103 h1 h2]
      refine ⟨vok_i (by omega), ?_⟩
      have e : Int32.ofInt ((a : Int) - 38) = vb_c (128 + (a - 38)) := by
        rcases (show a = 38 ∨ a = 39 ∨ a = 40 ∨ a = 41 ∨ a = 42 ∨ a = 43 ∨ a = 44 ∨ a = 45 ∨ a = 46 ∨ a = 47 ∨ a = 48 ∨ a = 49 ∨ a = 50 ∨ a = 51 ∨ a = 52 ∨ a = 53 by omega) with rfl | rfl | rfl | rfl | rfl | rfl | rfl | rfl | rfl | rfl | rfl | rfl | rfl | rfl | rfl | rfl <;> decide +kernel
      show va_OF _ _ _ (.int (Int32.ofInt ((a : Int) - 38))) _ _ _ _
      rw [e]
      exact hc1.2 (128 + (a - 38)) (by omega)
    · rw [k54] at hk0; exact absurd hk0 (by show ¬ 100 ≤ 1; omega)
  · rw [ek] at hk1 hk7 ⊢
    rw [em]
    have h3 : 3 ≤ a := by
      rcases Nat.lt_or_ge a 3 with z | z
      · rw [k0 a z] at hk1; exact absurd hk1 (by decide)
      · exact z
    rcases hcases a h3 a55 with rfl | ⟨h1, h2, h4⟩ | ⟨h1, h2, h4⟩ | ⟨h1, h2⟩ | rfl
    · rw [k3] at hk7; exact absurd hk7 (by decide)
    · rw [kS a h1 h2 h4] at hk7; exact absurd hk7 (by show ¬ 117 ≤ 7; omega)
    · rw [kV a h1 h2 h4, ca_ref (rV a h1 h2 h4)]
      obtain ⟨s1, s2, s3, s4, s5⟩ := hq ((a - 5) / 2) (by omega)
      refine ⟨⟨h3, Nat.le_refl 2, Nat.le_trans (zTX_len _) (by omega)⟩, ?_, fun j hj => ?_⟩
      · have e : (fun j => cv (zRho u0 u1 u2 bC q ad b) (hcM (fun j => (xs j).toInt) a j)) = fun j => .int (Int32.ofNat ((zTX.getD ((a - 5) / 2) []).getD j 0)) := by
          funext j
          rw [mV a j h1 h2 h4]
          show Value.int (Int32.ofInt _) = _
          rw [Int32.ofInt_eq_ofNat]
        rw [e]
        exact s5
      · rw [mV a j h1 h2 h4]
        have := zTX_le ((a - 5) / 2) j
        exact ⟨⟨_, rfl, by omega, by omega⟩, (vok_i (n := 55) (by omega)).1⟩
    · rw [kI a h1 h2] at hk7; exact absurd hk7 (by show ¬ 118 ≤ 7; omega)
    · rw [k54, ca_ref r54]
      refine ⟨⟨h3, (by show 1 ≤ 2; omega), (by show L ≤ 1000000; omega)⟩, ⟨scr, x1, x2, x3, Nat.le_of_eq x4.symm, (by rw [x4]), fun j hj => ?_, hA b hb⟩, fun j hj => ?_⟩
      · rw [x5 j hj]
        show some (Value.int (xs j)) = some (Value.int (Int32.ofInt (xs j).toInt))
        rw [Int32.ofInt_toInt]
      · exact ⟨⟨_, rfl⟩, (vok_i (n := 55) (i32_rng (xs j))).1⟩
  · rw [ek] at hk8 ⊢
    rw [em]
    have h3 : 3 ≤ a := by
      rcases Nat.lt_or_ge a 3 with z | z
      · rw [k0 a z] at hk8; exact absurd hk8 (by decide)
      · exact z
    rcases hcases a h3 a55 with rfl | ⟨h1, h2, h4⟩ | ⟨h1, h2, h4⟩ | ⟨h1, h2⟩ | rfl
    · rw [k3, ca_ref r3]
      refine ⟨⟨h3, rfl⟩, _, hc3, fun j j1 j2 => ⟨?_, 38 + (j - 128), rfl, by omega⟩⟩
      show Value.ref (ad j) = zRho u0 u1 u2 bC q ad b (38 + (j - 128))
      rw [rI (38 + (j - 128)) (by omega) (by omega), show 128 + (38 + (j - 128) - 38) = j by omega]
    · rw [kS a h1 h2 h4] at hk8; exact absurd hk8 (by show ¬ 117 = 8; omega)
    · rw [kV a h1 h2 h4] at hk8; exact absurd hk8 (by show ¬ 2 = 8; omega)
    · rw [kI a h1 h2] at hk8; exact absurd hk8 (by show ¬ 118 = 8; omega)
    · rw [k54] at hk8; exact absurd hk8 (by show ¬ 1 = 8; omega)
  · rcases (show q0 = 0 ∨ q0 = 1 ∨ q0 = 2 ∨ q0 = 3 ∨ q0 = 4 ∨ q0 = 5 ∨ q0 = 6 ∨ q0 = 7 ∨ q0 = 8 by omega) with rfl | rfl | rfl | rfl | rfl | rfl | rfl | rfl | rfl
    · exact hz0
    · exact hz1
    · exact va_Zof (hts _ q460) (hts _ (lw_all_tbl q135)) (va_eqi (bR (bR (bR (bL (bL (bL (bL (bL (bL (bL hN))))))))))) hA
    · exact va_Zof (hts _ q1720) (hts _ (lw_all_tbl q161)) (va_eqi (bL (bR (bR (bR (bR (bL (bL (bL (bR (bL hN))))))))))) hA
    · exact va_Zof (hts _ q660) (hts _ (lw_all_tbl q127)) (va_eqi (bL (bR (bR (bR (bL (bL (bL (bL (bL (bL hN))))))))))) hA
    · exact va_Zof (hts _ q503) (hts _ (lw_all_tbl q136)) (va_eqi (bL (bR (bL (bR (bL (bL (bL (bL (bL (bL hN))))))))))) hA
    · exact hz2
    · exact va_Zof (hts _ q2040) (hts _ (lw_all_tbl q167)) (va_eqi (bR (bR (bR (bR (bR (bL (bL (bL (bR (bL hN))))))))))) hA
    · exact va_Zof (hts _ q2042) (hts _ (lw_all_tbl q167)) hc2 hA
  · exact fa ⟨⟨by decide, by decide⟩, vk_R.of (hts _ q2033) (hq 16 (by decide)).1⟩ (fa ⟨⟨by decide, by decide⟩, vk_R.of (hts _ q644) (hq 0 (by decide)).1⟩ (fa ⟨⟨by decide, by decide⟩, vk_R.of (hts _ q645) (hq 1 (by decide)).1⟩ (fa ⟨⟨by decide, by decide⟩, vk_R.of (hts _ q646) (hq 2 (by decide)).1⟩ (fa ⟨⟨by decide, by decide⟩, vk_R.of (hts _ q647) (hq 3 (by decide)).1⟩ (fa ⟨⟨by decide, by decide⟩, vk_R.of (hts _ q648) (hq 4 (by decide)).1⟩ (fa ⟨⟨by decide, by decide⟩, vk_R.of (hts _ q649) (hq 5 (by decide)).1⟩ (fa ⟨⟨by decide, by decide⟩, vk_R.of (hts _ q650) (hq 6 (by decide)).1⟩ (fa ⟨⟨by decide, by decide⟩, vk_R.of (hts _ q651) (hq 7 (by decide)).1⟩ (fa ⟨⟨by decide, by decide⟩, vk_R.of (hts _ q2384) (zeqT (bL (bL (bR (bR (bR (bR (bR (bR (bL (bR hN)))))))))) (hq 0 (by decide)).1)⟩ (fa ⟨⟨by decide, by decide⟩, vk_R.of (hts _ q2410) (zeqT (bR (bR (bR (bL (bL (bL (bL (bR (bR hN))))))))) (hq 1 (by decide)).1)⟩ (fa ⟨⟨by decide, by decide⟩, vk_R.of (hts _ q2419) (zeqT (bL (bR (bR (bL (bR (bL (bL (bR (bR hN))))))))) (hq 2 (by decide)).1)⟩ (fa ⟨⟨by decide, by decide⟩, vk_R.of (hts _ q2420) (zeqT (bR (bR (bL (bL (bL (bR (bL (bR (bR hN))))))))) (hq 3 (by decide)).1)⟩ (fa ⟨⟨by decide, by decide⟩, vk_R.of (hts _ q2421) (zeqT (bL (bL (bL (bR (bR (bL (bR (bR hN)))))))) (hq 4 (by decide)).1)⟩ (fa ⟨⟨by decide, by decide⟩, vk_R.of (hts _ q2422) (zeqT (bR (bL (bR (bR (bR (bR (bL (bR (bR hN))))))))) (hq 5 (by decide)).1)⟩ (fa ⟨⟨by decide, by decide⟩, vk_R.of (hts _ q2435) (zeqT (bL (bR (bR (bR (bL (bL (bR (bR (bR hN))))))))) (hq 6 (by decide)).1)⟩ (fa ⟨⟨by decide, by decide⟩, vk_R.of (hts _ q2436) (zeqT (bR (bL (bR (bR (bR (bL (bR (bR (bR hN))))))))) (hq 7 (by decide)).1)⟩ (fa ⟨⟨by decide, by decide⟩, vk_R.of (hts _ q2204) (zeqT (bL (bL (bR (bR (bR (bL (bR (bR (bR (bL (bR hN))))))))))) (hq 16 (by decide)).1)⟩ (fa ⟨⟨by decide, by decide⟩, vk_R.of (hts _ q2213) (zeqT (bL (bR (bL (bL (bR (bR (bR (bR (bL (bR hN)))))))))) (hq 16 (by decide)).1)⟩ (fa ⟨⟨by decide, by decide⟩, vk_R.of (hts _ q1413) (hq 12 (by decide)).1⟩ (fa ⟨⟨by decide, by decide⟩, vk_R.of (hts _ q1579) (hq 13 (by decide)).1⟩ (fa ⟨⟨by decide, by decide⟩, vk_R.of (hts _ q956) (hq 8 (by decide)).1⟩ (fa ⟨⟨by decide, by decide⟩, vk_R.of (hts _ q1725) (hq 15 (by decide)).1⟩ (fa ⟨⟨by decide, by decide⟩, vk_R.of (hts _ q1693) (hq 14 (by decide)).1⟩ (fa ⟨⟨by decide, by decide⟩, vk_R.of (hts _ q1276) (hq 10 (by decide)).1⟩ (fa ⟨⟨by decide, by decide⟩, vk_R.of (hts _ q1279) (hq 11 (by decide)).1⟩ (fa ⟨⟨by decide, by decide⟩, vk_R.of (hts _ q1121) (hq 9 (by decide)).1⟩ (fn)))))))))))))))))))))))))))
end
