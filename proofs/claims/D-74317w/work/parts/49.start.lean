/-! The start: what the premises say of the constants. -/
theorem bL {a b : Cond} {args : Array Value} {s : State} (h : (Cond.and a b).before args s = true) : a.before args s = true := by
  have h1 := va_andE (args := args) (first := s) (s := s) (o := none) (idx := []) (A := a) (B := b) (by simpa [Cond.before, Cond.holds] using h)
  simpa [Cond.before, Cond.holds] using h1.1
theorem bR {a b : Cond} {args : Array Value} {s : State} (h : (Cond.and a b).before args s = true) : b.before args s = true := by
  have h1 := va_andE (args := args) (first := s) (s := s) (o := none) (idx := []) (A := a) (B := b) (by simpa [Cond.before, Cond.holds] using h)
  simpa [Cond.before, Cond.holds] using h1.2
def zSt1 (own : String) (i : Nat) (tx : List Nat) (A : Nat → Prop) (args : Array Value) (s : State) (a t : Nat) : Prop :=
  (Term.string own i).eval args s none [] s = some (.ref a) ∧ va_O "java/lang/String" a A s s.heap ∧ va_OF "java/lang/String" "coder" "B" (.int 0) a A s s.heap ∧ va_OF "java/lang/String" "value" "[B" (.ref t) a A s s.heap ∧ va_T .byte t tx.length (fun j => .int (Int32.ofNat (tx.getD j 0))) A s s.heap
theorem zStr {args : Array Value} {s : State} {own : String} {i : Nat} {tx : List Nat} {A : Nat → Prop} (hlen : tx.length < 2 ^ 31) (hex : (Cond.exactly (.string own i) "java/lang/String").before args s = true) (hco : (Cond.eq (.field (.string own i) "java/lang/String" "coder" "B") (.int 0)).before args s = true)
    (har : (Cond.arrayOf (.field (.string own i) "java/lang/String" "value" "[B") .byte).before args s = true) (hle : (Cond.eq (.length (.field (.string own i) "java/lang/String" "value" "[B")) (.int (Int32.ofNat tx.length))).before args s = true)
    (hel : ∀ j : Nat, j < tx.length → (Cond.eq (.elem (.field (.string own i) "java/lang/String" "value" "[B") (.int (Int32.ofNat j))) (.int (Int32.ofNat (tx.getD j 0)))).before args s = true) (hA : ∀ a : Nat, a < s.heap.size → ¬ A a) : ∃ a t, zSt1 own i tx A args s a t := by
  obtain ⟨a, c, cA, kA, q1, q2, q3, q4, q5, q6, -⟩ := Cond.exactly_spec (args := args) (first := s) (o := none) (s := s) (idx := []) (t := .string own i) (cls := "java/lang/String") hex
  obtain ⟨t, ht, hT⟩ := va_Tof (f := fun j => .int (Int32.ofNat (tx.getD j 0))) (A := A) hlen har (va_eqt hle) (fun j hj => va_eqt (hel j hj)) hA
  exact ⟨a, t, q1, ⟨cA, q3, q5, by rw [q6]; exact q2, hA a (Array.getElem?_eq_some_iff.mp q3).1⟩, vk_OFof q1 (va_eqt hco) hA, vk_OFof q1 ht hA, hT⟩
theorem zeqT {args : Array Value} {s : State} {t u : Term} {a : Nat} (h : (Cond.eq t u).before args s = true) (ht : t.eval args s none [] s = some (.ref a)) : u.eval args s none [] s = some (.ref a) := by
  cases hu : u.eval args s none [] s with
  | none => simp [Cond.before, Cond.holds, Cond.value, ht, hu] at h
  | some w =>
    simp only [Cond.before, Cond.holds, Cond.value, ht, hu] at h
    cases w <;> simp_all
def zTX : List (List Nat) := [[108, 101, 116, 116, 101, 114, 115], [108, 105, 109, 105, 116], [117, 110, 100, 101, 114], [117, 112, 116, 111], [111, 118, 101, 114], [109, 97, 112], [112, 97, 116, 116, 101, 114, 110], [97, 118, 111, 105, 100], [32, 62, 32], [117, 110, 114, 101, 99, 111, 103, 110, 105, 122, 101, 100, 32, 98, 97, 115, 105, 99, 32, 116, 121, 112, 101, 58, 32], [73, 110, 100, 101, 120, 58, 32], [44, 32, 83, 105, 122, 101, 58, 32], [58, 32], [83, 111, 114, 114, 121, 44, 32, 100, 101, 113, 117, 101, 32, 116, 111, 111, 32, 98, 105, 103], [98, 105, 116, 73, 110, 100, 101, 120, 32, 60, 32, 48, 58, 32], [102, 114, 111, 109, 73, 110, 100, 101, 120, 32, 60, 32, 48, 58, 32], []]
section
variable {args : Array Value} {s : State} {A : Nat → Prop}
theorem zstr0 (hN : narrow_1.before args s = true) (hA : ∀ a : Nat, a < s.heap.size → ¬ A a) : ∃ a t, zSt1 "RepeatFree$Reader" 9 (zTX.getD 0 []) A args s a t := by
  show ∃ a t, zSt1 "RepeatFree$Reader" 9 [108, 101, 116, 116, 101, 114, 115] A args s a t
  refine zStr (Nat.le_of_ble_eq_true rfl) (bL (bR (bR (bL (bL (bR (bL (bR (bL (bL (bR hN))))))))))) (bR (bR (bR (bL (bL (bR (bL (bR (bL (bL (bR hN))))))))))) (bL (bL (bR (bL (bR (bL (bR (bL (bL (bR hN)))))))))) (bL (bR (bL (bR (bL (bR (bL (bR (bL (bL (bR hN))))))))))) (fun j hj => ?_) hA
  have hj : j < 7 := hj
  rcases (show j = 0 ∨ j = 1 ∨ j = 2 ∨ j = 3 ∨ j = 4 ∨ j = 5 ∨ j = 6 by omega) with rfl | rfl | rfl | rfl | rfl | rfl | rfl
  · exact (bR (bR (bL (bR (bL (bR (bL (bR (bL (bL (bR hN)))))))))))
  · exact (bL (bR (bR (bL (bR (bL (bR (bL (bL (bR hN))))))))))
  · exact (bL (bR (bR (bR (bL (bR (bL (bR (bL (bL (bR hN)))))))))))
  · exact (bR (bR (bR (bR (bL (bR (bL (bR (bL (bL (bR hN)))))))))))
  · exact (bL (bL (bL (bR (bR (bL (bR (bL (bL (bR hN))))))))))
  · exact (bL (bR (bL (bL (bR (bR (bL (bR (bL (bL (bR hN)))))))))))
  · exact (bR (bR (bL (bL (bR (bR (bL (bR (bL (bL (bR hN)))))))))))
theorem zstr1 (hN : narrow_1.before args s = true) (hA : ∀ a : Nat, a < s.heap.size → ¬ A a) : ∃ a t, zSt1 "RepeatFree$Reader" 11 (zTX.getD 1 []) A args s a t := by
  show ∃ a t, zSt1 "RepeatFree$Reader" 11 [108, 105, 109, 105, 116] A args s a t
  refine zStr (Nat.le_of_ble_eq_true rfl) (bR (bR (bR (bL (bR (bR (bL (bR (bL (bL (bR hN))))))))))) (bL (bL (bR (bR (bR (bL (bR (bL (bL (bR hN)))))))))) (bL (bR (bL (bR (bR (bR (bL (bR (bL (bL (bR hN))))))))))) (bR (bR (bL (bR (bR (bR (bL (bR (bL (bL (bR hN))))))))))) (fun j hj => ?_) hA
  have hj : j < 5 := hj
  rcases (show j = 0 ∨ j = 1 ∨ j = 2 ∨ j = 3 ∨ j = 4 by omega) with rfl | rfl | rfl | rfl | rfl
  · exact (bL (bL (bR (bR (bR (bR (bL (bR (bL (bL (bR hN)))))))))))
  · exact (bR (bL (bR (bR (bR (bR (bL (bR (bL (bL (bR hN)))))))))))
  · exact (bL (bR (bR (bR (bR (bR (bL (bR (bL (bL (bR hN)))))))))))
  · exact (bR (bR (bR (bR (bR (bR (bL (bR (bL (bL (bR hN)))))))))))
  · exact (bL (bL (bL (bL (bL (bR (bR (bL (bL (bR hN))))))))))
theorem zstr2 (hN : narrow_1.before args s = true) (hA : ∀ a : Nat, a < s.heap.size → ¬ A a) : ∃ a t, zSt1 "RepeatFree$Reader" 13 (zTX.getD 2 []) A args s a t := by
  show ∃ a t, zSt1 "RepeatFree$Reader" 13 [117, 110, 100, 101, 114] A args s a t
  refine zStr (Nat.le_of_ble_eq_true rfl) (bL (bR (bL (bL (bL (bR (bR (bL (bL (bR hN)))))))))) (bL (bR (bR (bL (bL (bL (bR (bR (bL (bL (bR hN))))))))))) (bR (bR (bR (bL (bL (bL (bR (bR (bL (bL (bR hN))))))))))) (bL (bL (bR (bL (bL (bR (bR (bL (bL (bR hN)))))))))) (fun j hj => ?_) hA
  have hj : j < 5 := hj
  rcases (show j = 0 ∨ j = 1 ∨ j = 2 ∨ j = 3 ∨ j = 4 by omega) with rfl | rfl | rfl | rfl | rfl
  · exact (bL (bR (bL (bR (bL (bL (bR (bR (bL (bL (bR hN)))))))))))
  · exact (bR (bR (bL (bR (bL (bL (bR (bR (bL (bL (bR hN)))))))))))
  · exact (bL (bR (bR (bL (bL (bR (bR (bL (bL (bR hN))))))))))
  · exact (bL (bR (bR (bR (bL (bL (bR (bR (bL (bL (bR hN)))))))))))
  · exact (bR (bR (bR (bR (bL (bL (bR (bR (bL (bL (bR hN)))))))))))
theorem zstr3 (hN : narrow_1.before args s = true) (hA : ∀ a : Nat, a < s.heap.size → ¬ A a) : ∃ a t, zSt1 "RepeatFree$Reader" 15 (zTX.getD 3 []) A args s a t := by
  show ∃ a t, zSt1 "RepeatFree$Reader" 15 [117, 112, 116, 111] A args s a t
  refine zStr (Nat.le_of_ble_eq_true rfl) (bR (bR (bL (bL (bR (bL (bR (bR (bL (bL (bR hN))))))))))) (bL (bR (bL (bR (bL (bR (bR (bL (bL (bR hN)))))))))) (bL (bR (bR (bL (bR (bL (bR (bR (bL (bL (bR hN))))))))))) (bR (bR (bR (bL (bR (bL (bR (bR (bL (bL (bR hN))))))))))) (fun j hj => ?_) hA
  have hj : j < 4 := hj
  rcases (show j = 0 ∨ j = 1 ∨ j = 2 ∨ j = 3 by omega) with rfl | rfl | rfl | rfl
  · exact (bL (bL (bR (bR (bL (bR (bR (bL (bL (bR hN))))))))))
  · exact (bL (bR (bL (bR (bR (bL (bR (bR (bL (bL (bR hN)))))))))))
  · exact (bR (bR (bL (bR (bR (bL (bR (bR (bL (bL (bR hN)))))))))))
  · exact (bL (bL (bR (bR (bR (bL (bR (bR (bL (bL (bR hN)))))))))))
theorem zstr4 (hN : narrow_1.before args s = true) (hA : ∀ a : Nat, a < s.heap.size → ¬ A a) : ∃ a t, zSt1 "RepeatFree$Reader" 17 (zTX.getD 4 []) A args s a t := by
  show ∃ a t, zSt1 "RepeatFree$Reader" 17 [111, 118, 101, 114] A args s a t
  refine zStr (Nat.le_of_ble_eq_true rfl) (bR (bR (bR (bR (bR (bL (bR (bR (bL (bL (bR hN))))))))))) (bL (bL (bL (bL (bR (bR (bR (bL (bL (bR hN)))))))))) (bL (bR (bL (bL (bL (bR (bR (bR (bL (bL (bR hN))))))))))) (bR (bR (bL (bL (bL (bR (bR (bR (bL (bL (bR hN))))))))))) (fun j hj => ?_) hA
  have hj : j < 4 := hj
  rcases (show j = 0 ∨ j = 1 ∨ j = 2 ∨ j = 3 by omega) with rfl | rfl | rfl | rfl
  · exact (bL (bR (bL (bL (bR (bR (bR (bL (bL (bR hN))))))))))
  · exact (bL (bR (bR (bL (bL (bR (bR (bR (bL (bL (bR hN)))))))))))
  · exact (bR (bR (bR (bL (bL (bR (bR (bR (bL (bL (bR hN)))))))))))
  · exact (bL (bL (bR (bL (bR (bR (bR (bL (bL (bR hN))))))))))
theorem zstr5 (hN : narrow_1.before args s = true) (hA : ∀ a : Nat, a < s.heap.size → ¬ A a) : ∃ a t, zSt1 "RepeatFree$Reader" 19 (zTX.getD 5 []) A args s a t := by
  show ∃ a t, zSt1 "RepeatFree$Reader" 19 [109, 97, 112] A args s a t
  refine zStr (Nat.le_of_ble_eq_true rfl) (bL (bR (bR (bL (bR (bR (bR (bL (bL (bR hN)))))))))) (bL (bR (bR (bR (bL (bR (bR (bR (bL (bL (bR hN))))))))))) (bR (bR (bR (bR (bL (bR (bR (bR (bL (bL (bR hN))))))))))) (bL (bL (bL (bR (bR (bR (bR (bL (bL (bR hN)))))))))) (fun j hj => ?_) hA
  have hj : j < 3 := hj
  rcases (show j = 0 ∨ j = 1 ∨ j = 2 by omega) with rfl | rfl | rfl
  · exact (bL (bR (bL (bL (bR (bR (bR (bR (bL (bL (bR hN)))))))))))
  · exact (bR (bR (bL (bL (bR (bR (bR (bR (bL (bL (bR hN)))))))))))
  · exact (bL (bR (bL (bR (bR (bR (bR (bL (bL (bR hN))))))))))
theorem zstr6 (hN : narrow_1.before args s = true) (hA : ∀ a : Nat, a < s.heap.size → ¬ A a) : ∃ a t, zSt1 "RepeatFree$Reader" 21 (zTX.getD 6 []) A args s a t := by
  show ∃ a t, zSt1 "RepeatFree$Reader" 21 [112, 97, 116, 116, 101, 114, 110] A args s a t
  refine zStr (Nat.le_of_ble_eq_true rfl) (bL (bL (bR (bR (bR (bR (bR (bL (bL (bR hN)))))))))) (bL (bR (bL (bR (bR (bR (bR (bR (bL (bL (bR hN))))))))))) (bR (bR (bL (bR (bR (bR (bR (bR (bL (bL (bR hN))))))))))) (bL (bL (bR (bR (bR (bR (bR (bR (bL (bL (bR hN))))))))))) (fun j hj => ?_) hA
  have hj : j < 7 := hj
  rcases (show j = 0 ∨ j = 1 ∨ j = 2 ∨ j = 3 ∨ j = 4 ∨ j = 5 ∨ j = 6 by omega) with rfl | rfl | rfl | rfl | rfl | rfl | rfl
  · exact (bR (bL (bR (bR (bR (bR (bR (bR (bL (bL (bR hN)))))))))))
  · exact (bL (bR (bR (bR (bR (bR (bR (bR (bL (bL (bR hN)))))))))))
  · exact (bR (bR (bR (bR (bR (bR (bR (bR (bL (bL (bR hN)))))))))))
  · exact (bL (bL (bL (bL (bL (bL (bL (bR (bL (bR hN))))))))))
  · exact (bL (bR (bL (bL (bL (bL (bL (bL (bR (bL (bR hN)))))))))))
  · exact (bR (bR (bL (bL (bL (bL (bL (bL (bR (bL (bR hN)))))))))))
  · exact (bL (bR (bL (bL (bL (bL (bL (bR (bL (bR hN))))))))))
theorem zstr7 (hN : narrow_1.before args s = true) (hA : ∀ a : Nat, a < s.heap.size → ¬ A a) : ∃ a t, zSt1 "RepeatFree$Reader" 23 (zTX.getD 7 []) A args s a t := by
  show ∃ a t, zSt1 "RepeatFree$Reader" 23 [97, 118, 111, 105, 100] A args s a t
  refine zStr (Nat.le_of_ble_eq_true rfl) (bL (bL (bR (bL (bL (bL (bL (bR (bL (bR hN)))))))))) (bL (bR (bL (bR (bL (bL (bL (bL (bR (bL (bR hN))))))))))) (bR (bR (bL (bR (bL (bL (bL (bL (bR (bL (bR hN))))))))))) (bL (bR (bR (bL (bL (bL (bL (bR (bL (bR hN)))))))))) (fun j hj => ?_) hA
  have hj : j < 5 := hj
  rcases (show j = 0 ∨ j = 1 ∨ j = 2 ∨ j = 3 ∨ j = 4 by omega) with rfl | rfl | rfl | rfl | rfl
  · exact (bL (bR (bR (bR (bL (bL (bL (bL (bR (bL (bR hN)))))))))))
  · exact (bR (bR (bR (bR (bL (bL (bL (bL (bR (bL (bR hN)))))))))))
  · exact (bL (bL (bL (bR (bL (bL (bL (bR (bL (bR hN))))))))))
  · exact (bL (bR (bL (bL (bR (bL (bL (bL (bR (bL (bR hN)))))))))))
  · exact (bR (bR (bL (bL (bR (bL (bL (bL (bR (bL (bR hN)))))))))))
theorem zstr8 (hN : narrow_1.before args s = true) (hA : ∀ a : Nat, a < s.heap.size → ¬ A a) : ∃ a t, zSt1 "java/util/Arrays" 337 (zTX.getD 8 []) A args s a t := by
  show ∃ a t, zSt1 "java/util/Arrays" 337 [32, 62, 32] A args s a t
  refine zStr (Nat.le_of_ble_eq_true rfl) (bR (bR (bR (bL (bR (bL (bL (bL (bR (bL (bR hN))))))))))) (bL (bL (bR (bR (bL (bL (bL (bR (bL (bR hN)))))))))) (bL (bR (bL (bR (bR (bL (bL (bL (bR (bL (bR hN))))))))))) (bR (bR (bL (bR (bR (bL (bL (bL (bR (bL (bR hN))))))))))) (fun j hj => ?_) hA
  have hj : j < 3 := hj
  rcases (show j = 0 ∨ j = 1 ∨ j = 2 by omega) with rfl | rfl | rfl
  · exact (bL (bL (bR (bR (bR (bL (bL (bL (bR (bL (bR hN)))))))))))
  · exact (bR (bL (bR (bR (bR (bL (bL (bL (bR (bL (bR hN)))))))))))
  · exact (bL (bR (bR (bR (bR (bL (bL (bL (bR (bL (bR hN)))))))))))
theorem zstr9 (hN : narrow_1.before args s = true) (hA : ∀ a : Nat, a < s.heap.size → ¬ A a) : ∃ a t, zSt1 "jdk/internal/util/ArraysSupport" 92 (zTX.getD 9 []) A args s a t := by
  show ∃ a t, zSt1 "jdk/internal/util/ArraysSupport" 92 [117, 110, 114, 101, 99, 111, 103, 110, 105, 122, 101, 100, 32, 98, 97, 115, 105, 99, 32, 116, 121, 112, 101, 58, 32] A args s a t
  refine zStr (Nat.le_of_ble_eq_true rfl) (bL (bR (bL (bL (bL (bR (bL (bL (bR (bL (bR hN))))))))))) (bR (bR (bL (bL (bL (bR (bL (bL (bR (bL (bR hN))))))))))) (bL (bR (bL (bL (bR (bL (bL (bR (bL (bR hN)))))))))) (bL (bR (bR (bL (bL (bR (bL (bL (bR (bL (bR hN))))))))))) (fun j hj => ?_) hA
  have hj : j < 25 := hj
  rcases (show j = 0 ∨ j = 1 ∨ j = 2 ∨ j = 3 ∨ j = 4 ∨ j = 5 ∨ j = 6 ∨ j = 7 ∨ j = 8 ∨ j = 9 ∨ j = 10 ∨ j = 11 ∨ j = 12 ∨ j = 13 ∨ j = 14 ∨ j = 15 ∨ j = 16 ∨ j = 17 ∨ j = 18 ∨ j = 19 ∨ j = 20 ∨ j = 21 ∨ j = 22 ∨ j = 23 ∨ j = 24 by omega) with rfl | rfl | rfl | rfl | rfl | rfl | rfl | rfl | rfl | rfl | rfl | rfl | rfl | rfl | rfl | rfl | rfl | rfl | rfl | rfl | rfl | rfl | rfl | rfl | rfl
  · exact (bR (bR (bR (bL (bL (bR (bL (bL (bR (bL (bR hN)))))))))))
  · exact (bL (bL (bR (bL (bR (bL (bL (bR (bL (bR hN))))))))))
  · exact (bL (bR (bL (bR (bL (bR (bL (bL (bR (bL (bR hN)))))))))))
  · exact (bR (bR (bL (bR (bL (bR (bL (bL (bR (bL (bR hN)))))))))))
  · exact (bL (bR (bR (bL (bR (bL (bL (bR (bL (bR hN))))))))))
  · exact (bL (bR (bR (bR (bL (bR (bL (bL (bR (bL (bR hN)))))))))))
  · exact (bR (bR (bR (bR (bL (bR (bL (bL (bR (bL (bR hN)))))))))))
  · exact (bL (bL (bL (bR (bR (bL (bL (bR (bL (bR hN))))))))))
  · exact (bL (bR (bL (bL (bR (bR (bL (bL (bR (bL (bR hN)))))))))))
  · exact (bR (bR (bL (bL (bR (bR (bL (bL (bR (bL (bR hN)))))))))))
  · exact (bL (bR (bL (bR (bR (bL (bL (bR (bL (bR hN))))))))))
  · exact (bL (bR (bR (bL (bR (bR (bL (bL (bR (bL (bR hN)))))))))))
  · exact (bR (bR (bR (bL (bR (bR (bL (bL (bR (bL (bR hN)))))))))))
  · exact (bL (bL (bR (bR (bR (bL (bL (bR (bL (bR hN))))))))))
  · exact (bL (bR (bL (bR (bR (bR (bL (bL (bR (bL (bR hN)))))))))))
  · exact (bR (bR (bL (bR (bR (bR (bL (bL (bR (bL (bR hN)))))))))))
  · exact (bL (bL (bR (bR (bR (bR (bL (bL (bR (bL (bR hN)))))))))))
  · exact (bR (bL (bR (bR (bR (bR (bL (bL (bR (bL (bR hN)))))))))))
  · exact (bL (bR (bR (bR (bR (bR (bL (bL (bR (bL (bR hN)))))))))))
  · exact (bR (bR (bR (bR (bR (bR (bL (bL (bR (bL (bR hN)))))))))))
  · exact (bL (bL (bL (bL (bL (bR (bL (bR (bL (bR hN))))))))))
  · exact (bL (bR (bL (bL (bL (bL (bR (bL (bR (bL (bR hN)))))))))))
  · exact (bR (bR (bL (bL (bL (bL (bR (bL (bR (bL (bR hN)))))))))))
  · exact (bL (bR (bL (bL (bL (bR (bL (bR (bL (bR hN))))))))))
  · exact (bL (bR (bR (bL (bL (bL (bR (bL (bR (bL (bR hN)))))))))))
theorem zstr10 (hN : narrow_1.before args s = true) (hA : ∀ a : Nat, a < s.heap.size → ¬ A a) : ∃ a t, zSt1 "java/util/LinkedList" 100 (zTX.getD 10 []) A args s a t := by
  show ∃ a t, zSt1 "java/util/LinkedList" 100 [73, 110, 100, 101, 120, 58, 32] A args s a t
  refine zStr (Nat.le_of_ble_eq_true rfl) (bL (bR (bL (bR (bL (bL (bR (bL (bR (bL (bR hN))))))))))) (bR (bR (bL (bR (bL (bL (bR (bL (bR (bL (bR hN))))))))))) (bL (bR (bR (bL (bL (bR (bL (bR (bL (bR hN)))))))))) (bL (bR (bR (bR (bL (bL (bR (bL (bR (bL (bR hN))))))))))) (fun j hj => ?_) hA
  have hj : j < 7 := hj
  rcases (show j = 0 ∨ j = 1 ∨ j = 2 ∨ j = 3 ∨ j = 4 ∨ j = 5 ∨ j = 6 by omega) with rfl | rfl | rfl | rfl | rfl | rfl | rfl
  · exact (bR (bR (bR (bR (bL (bL (bR (bL (bR (bL (bR hN)))))))))))
  · exact (bL (bL (bL (bR (bL (bR (bL (bR (bL (bR hN))))))))))
  · exact (bL (bR (bL (bL (bR (bL (bR (bL (bR (bL (bR hN)))))))))))
  · exact (bR (bR (bL (bL (bR (bL (bR (bL (bR (bL (bR hN)))))))))))
  · exact (bL (bR (bL (bR (bL (bR (bL (bR (bL (bR hN))))))))))
  · exact (bL (bR (bR (bL (bR (bL (bR (bL (bR (bL (bR hN)))))))))))
  · exact (bR (bR (bR (bL (bR (bL (bR (bL (bR (bL (bR hN)))))))))))
theorem zstr11 (hN : narrow_1.before args s = true) (hA : ∀ a : Nat, a < s.heap.size → ¬ A a) : ∃ a t, zSt1 "java/util/LinkedList" 109 (zTX.getD 11 []) A args s a t := by
  show ∃ a t, zSt1 "java/util/LinkedList" 109 [44, 32, 83, 105, 122, 101, 58, 32] A args s a t
  refine zStr (Nat.le_of_ble_eq_true rfl) (bR (bR (bL (bR (bR (bL (bR (bL (bR (bL (bR hN))))))))))) (bL (bL (bR (bR (bR (bL (bR (bL (bR (bL (bR hN))))))))))) (bR (bL (bR (bR (bR (bL (bR (bL (bR (bL (bR hN))))))))))) (bL (bR (bR (bR (bR (bL (bR (bL (bR (bL (bR hN))))))))))) (fun j hj => ?_) hA
  have hj : j < 8 := hj
  rcases (show j = 0 ∨ j = 1 ∨ j = 2 ∨ j = 3 ∨ j = 4 ∨ j = 5 ∨ j = 6 ∨ j = 7 by omega) with rfl | rfl | rfl | rfl | rfl | rfl | rfl | rfl
  · exact (bR (bR (bR (bR (bR (bL (bR (bL (bR (bL (bR hN)))))))))))
  · exact (bL (bL (bL (bL (bR (bR (bL (bR (bL (bR hN))))))))))
  · exact (bL (bR (bL (bL (bL (bR (bR (bL (bR (bL (bR hN)))))))))))
  · exact (bR (bR (bL (bL (bL (bR (bR (bL (bR (bL (bR hN)))))))))))
  · exact (bL (bR (bL (bL (bR (bR (bL (bR (bL (bR hN))))))))))
  · exact (bL (bR (bR (bL (bL (bR (bR (bL (bR (bL (bR hN)))))))))))
  · exact (bR (bR (bR (bL (bL (bR (bR (bL (bR (bL (bR hN)))))))))))
  · exact (bL (bL (bR (bL (bR (bR (bL (bR (bL (bR hN))))))))))
theorem zstr12 (hN : narrow_1.before args s = true) (hA : ∀ a : Nat, a < s.heap.size → ¬ A a) : ∃ a t, zSt1 "java/lang/Throwable" 81 (zTX.getD 12 []) A args s a t := by
  show ∃ a t, zSt1 "java/lang/Throwable" 81 [58, 32] A args s a t
  refine zStr (Nat.le_of_ble_eq_true rfl) (bL (bR (bR (bL (bR (bR (bL (bR (bL (bR hN)))))))))) (bL (bR (bR (bR (bL (bR (bR (bL (bR (bL (bR hN))))))))))) (bR (bR (bR (bR (bL (bR (bR (bL (bR (bL (bR hN))))))))))) (bL (bL (bL (bR (bR (bR (bL (bR (bL (bR hN)))))))))) (fun j hj => ?_) hA
  have hj : j < 2 := hj
  rcases (show j = 0 ∨ j = 1 by omega) with rfl | rfl
  · exact (bL (bR (bL (bL (bR (bR (bR (bL (bR (bL (bR hN)))))))))))
  · exact (bR (bR (bL (bL (bR (bR (bR (bL (bR (bL (bR hN)))))))))))
theorem zstr13 (hN : narrow_1.before args s = true) (hA : ∀ a : Nat, a < s.heap.size → ¬ A a) : ∃ a t, zSt1 "java/util/ArrayDeque" 35 (zTX.getD 13 []) A args s a t := by
  show ∃ a t, zSt1 "java/util/ArrayDeque" 35 [83, 111, 114, 114, 121, 44, 32, 100, 101, 113, 117, 101, 32, 116, 111, 111, 32, 98, 105, 103] A args s a t
  refine zStr (Nat.le_of_ble_eq_true rfl) (bR (bR (bR (bL (bR (bR (bR (bL (bR (bL (bR hN))))))))))) (bL (bL (bR (bR (bR (bR (bL (bR (bL (bR hN)))))))))) (bL (bR (bL (bR (bR (bR (bR (bL (bR (bL (bR hN))))))))))) (bR (bR (bL (bR (bR (bR (bR (bL (bR (bL (bR hN))))))))))) (fun j hj => ?_) hA
  have hj : j < 20 := hj
  rcases (show j = 0 ∨ j = 1 ∨ j = 2 ∨ j = 3 ∨ j = 4 ∨ j = 5 ∨ j = 6 ∨ j = 7 ∨ j = 8 ∨ j = 9 ∨ j = 10 ∨ j = 11 ∨ j = 12 ∨ j = 13 ∨ j = 14 ∨ j = 15 ∨ j = 16 ∨ j = 17 ∨ j = 18 ∨ j = 19 by omega) with rfl | rfl | rfl | rfl | rfl | rfl | rfl | rfl | rfl | rfl | rfl | rfl | rfl | rfl | rfl | rfl | rfl | rfl | rfl | rfl
  · exact (bL (bL (bR (bR (bR (bR (bR (bL (bR (bL (bR hN)))))))))))
  · exact (bR (bL (bR (bR (bR (bR (bR (bL (bR (bL (bR hN)))))))))))
  · exact (bL (bR (bR (bR (bR (bR (bR (bL (bR (bL (bR hN)))))))))))
  · exact (bR (bR (bR (bR (bR (bR (bR (bL (bR (bL (bR hN)))))))))))
  · exact (bL (bL (bL (bL (bL (bL (bR (bR (bL (bR hN))))))))))
  · exact (bL (bR (bL (bL (bL (bL (bL (bR (bR (bL (bR hN)))))))))))
  · exact (bR (bR (bL (bL (bL (bL (bL (bR (bR (bL (bR hN)))))))))))
  · exact (bL (bR (bL (bL (bL (bL (bR (bR (bL (bR hN))))))))))
  · exact (bL (bR (bR (bL (bL (bL (bL (bR (bR (bL (bR hN)))))))))))
  · exact (bR (bR (bR (bL (bL (bL (bL (bR (bR (bL (bR hN)))))))))))
  · exact (bL (bL (bR (bL (bL (bL (bR (bR (bL (bR hN))))))))))
  · exact (bL (bR (bL (bR (bL (bL (bL (bR (bR (bL (bR hN)))))))))))
  · exact (bR (bR (bL (bR (bL (bL (bL (bR (bR (bL (bR hN)))))))))))
  · exact (bL (bR (bR (bL (bL (bL (bR (bR (bL (bR hN))))))))))
  · exact (bL (bR (bR (bR (bL (bL (bL (bR (bR (bL (bR hN)))))))))))
  · exact (bR (bR (bR (bR (bL (bL (bL (bR (bR (bL (bR hN)))))))))))
  · exact (bL (bL (bL (bR (bL (bL (bR (bR (bL (bR hN))))))))))
  · exact (bL (bR (bL (bL (bR (bL (bL (bR (bR (bL (bR hN)))))))))))
  · exact (bR (bR (bL (bL (bR (bL (bL (bR (bR (bL (bR hN)))))))))))
  · exact (bL (bR (bL (bR (bL (bL (bR (bR (bL (bR hN))))))))))
theorem zstr14 (hN : narrow_1.before args s = true) (hA : ∀ a : Nat, a < s.heap.size → ¬ A a) : ∃ a t, zSt1 "java/util/BitSet" 153 (zTX.getD 14 []) A args s a t := by
  show ∃ a t, zSt1 "java/util/BitSet" 153 [98, 105, 116, 73, 110, 100, 101, 120, 32, 60, 32, 48, 58, 32] A args s a t
  refine zStr (Nat.le_of_ble_eq_true rfl) (bL (bL (bR (bR (bL (bL (bR (bR (bL (bR hN)))))))))) (bL (bR (bL (bR (bR (bL (bL (bR (bR (bL (bR hN))))))))))) (bR (bR (bL (bR (bR (bL (bL (bR (bR (bL (bR hN))))))))))) (bL (bL (bR (bR (bR (bL (bL (bR (bR (bL (bR hN))))))))))) (fun j hj => ?_) hA
  have hj : j < 14 := hj
  rcases (show j = 0 ∨ j = 1 ∨ j = 2 ∨ j = 3 ∨ j = 4 ∨ j = 5 ∨ j = 6 ∨ j = 7 ∨ j = 8 ∨ j = 9 ∨ j = 10 ∨ j = 11 ∨ j = 12 ∨ j = 13 by omega) with rfl | rfl | rfl | rfl | rfl | rfl | rfl | rfl | rfl | rfl | rfl | rfl | rfl | rfl
  · exact (bR (bL (bR (bR (bR (bL (bL (bR (bR (bL (bR hN)))))))))))
  · exact (bL (bR (bR (bR (bR (bL (bL (bR (bR (bL (bR hN)))))))))))
  · exact (bR (bR (bR (bR (bR (bL (bL (bR (bR (bL (bR hN)))))))))))
  · exact (bL (bL (bL (bL (bR (bL (bR (bR (bL (bR hN))))))))))
  · exact (bL (bR (bL (bL (bL (bR (bL (bR (bR (bL (bR hN)))))))))))
  · exact (bR (bR (bL (bL (bL (bR (bL (bR (bR (bL (bR hN)))))))))))
  · exact (bL (bR (bL (bL (bR (bL (bR (bR (bL (bR hN))))))))))
  · exact (bL (bR (bR (bL (bL (bR (bL (bR (bR (bL (bR hN)))))))))))
  · exact (bR (bR (bR (bL (bL (bR (bL (bR (bR (bL (bR hN)))))))))))
  · exact (bL (bL (bR (bL (bR (bL (bR (bR (bL (bR hN))))))))))
  · exact (bL (bR (bL (bR (bL (bR (bL (bR (bR (bL (bR hN)))))))))))
  · exact (bR (bR (bL (bR (bL (bR (bL (bR (bR (bL (bR hN)))))))))))
  · exact (bL (bR (bR (bL (bR (bL (bR (bR (bL (bR hN))))))))))
  · exact (bL (bR (bR (bR (bL (bR (bL (bR (bR (bL (bR hN)))))))))))
theorem zstr15 (hN : narrow_1.before args s = true) (hA : ∀ a : Nat, a < s.heap.size → ¬ A a) : ∃ a t, zSt1 "java/util/BitSet" 144 (zTX.getD 15 []) A args s a t := by
  show ∃ a t, zSt1 "java/util/BitSet" 144 [102, 114, 111, 109, 73, 110, 100, 101, 120, 32, 60, 32, 48, 58, 32] A args s a t
  refine zStr (Nat.le_of_ble_eq_true rfl) (bL (bR (bL (bL (bR (bR (bL (bR (bR (bL (bR hN))))))))))) (bR (bR (bL (bL (bR (bR (bL (bR (bR (bL (bR hN))))))))))) (bL (bR (bL (bR (bR (bL (bR (bR (bL (bR hN)))))))))) (bL (bR (bR (bL (bR (bR (bL (bR (bR (bL (bR hN))))))))))) (fun j hj => ?_) hA
  have hj : j < 15 := hj
  rcases (show j = 0 ∨ j = 1 ∨ j = 2 ∨ j = 3 ∨ j = 4 ∨ j = 5 ∨ j = 6 ∨ j = 7 ∨ j = 8 ∨ j = 9 ∨ j = 10 ∨ j = 11 ∨ j = 12 ∨ j = 13 ∨ j = 14 by omega) with rfl | rfl | rfl | rfl | rfl | rfl | rfl | rfl | rfl | rfl | rfl | rfl | rfl | rfl | rfl
  · exact (bR (bR (bR (bL (bR (bR (bL (bR (bR (bL (bR hN)))))))))))
  · exact (bL (bL (bR (bR (bR (bL (bR (bR (bL (bR hN))))))))))
  · exact (bL (bR (bL (bR (bR (bR (bL (bR (bR (bL (bR hN)))))))))))
  · exact (bR (bR (bL (bR (bR (bR (bL (bR (bR (bL (bR hN)))))))))))
  · exact (bL (bL (bR (bR (bR (bR (bL (bR (bR (bL (bR hN)))))))))))
  · exact (bR (bL (bR (bR (bR (bR (bL (bR (bR (bL (bR hN)))))))))))
  · exact (bL (bR (bR (bR (bR (bR (bL (bR (bR (bL (bR hN)))))))))))
  · exact (bR (bR (bR (bR (bR (bR (bL (bR (bR (bL (bR hN)))))))))))
  · exact (bL (bL (bL (bL (bL (bR (bR (bR (bL (bR hN))))))))))
  · exact (bL (bR (bL (bL (bL (bL (bR (bR (bR (bL (bR hN)))))))))))
  · exact (bR (bR (bL (bL (bL (bL (bR (bR (bR (bL (bR hN)))))))))))
  · exact (bL (bR (bL (bL (bL (bR (bR (bR (bL (bR hN))))))))))
  · exact (bL (bR (bR (bL (bL (bL (bR (bR (bR (bL (bR hN)))))))))))
  · exact (bR (bR (bR (bL (bL (bL (bR (bR (bR (bL (bR hN)))))))))))
  · exact (bL (bL (bR (bL (bL (bR (bR (bR (bL (bR hN))))))))))
theorem zstr16 (hN : narrow_1.before args s = true) (hA : ∀ a : Nat, a < s.heap.size → ¬ A a) : ∃ a t, zSt1 "RepeatFree" 456 (zTX.getD 16 []) A args s a t := by
  show ∃ a t, zSt1 "RepeatFree" 456 [] A args s a t
  refine zStr (Nat.le_of_ble_eq_true rfl) (bL (bR (bR (bL (bL (bR (bR (bR (bL (bR hN)))))))))) (bL (bR (bR (bR (bL (bL (bR (bR (bR (bL (bR hN))))))))))) (bR (bR (bR (bR (bL (bL (bR (bR (bR (bL (bR hN))))))))))) (bL (bL (bL (bR (bL (bR (bR (bR (bL (bR hN)))))))))) (fun j hj => ?_) hA
  have hj : j < 0 := hj
  exact absurd hj (Nat.not_lt_zero _)
theorem zcache (hN : narrow_1.before args s = true) (hA : ∀ a : Nat, a < s.heap.size → ¬ A a) : ∃ (ad : Nat → Nat) (t : Nat), vb_C ad A s s.heap ∧ (Term.static "java/lang/Integer$IntegerCache" "cache" "[Ljava/lang/Integer;").eval args s none [] s = some (.ref t) ∧ va_T (.object "java/lang/Integer") t 256 (fun j => .ref (ad j)) A s s.heap := by
  have hlen : (Term.length (.static "java/lang/Integer$IntegerCache" "cache" "[Ljava/lang/Integer;")).eval args s none [] s = some (.int (Int32.ofNat 256)) := va_eqt (bR (bR (bL (bL (bL (bR (bL (bL (bR (bL hN))))))))))
  obtain ⟨ad, h1, h2⟩ := vb_Cof (A := A) (st := .static "java/lang/Integer$IntegerCache" "cache" "[Ljava/lang/Integer;") rfl hlen (bL (bR (bL (bL (bR (bL (bL (bR (bL hN))))))))) hA
  obtain ⟨t, h3, h4⟩ := va_Tof (f := fun j => .ref (ad j)) (A := A) (Nat.le_of_ble_eq_true rfl) (bL (bR (bL (bL (bL (bR (bL (bL (bR (bL hN)))))))))) hlen h2 hA
  exact ⟨ad, t, h1, h3, h4⟩
theorem zNcs_start (hN : narrow_1.before args s = true) : ∀ q, q ∈ zNcs → va_Nc q.1 q.2 s :=
  fa (va_Nc.of (bL (bR (bL (bL (bL (bR (bR (bR (bL hN)))))))))) (fa (va_Nc.of (bL (bR (bR (bL (bL (bL (bL (bL (bL (bR hN))))))))))) (fa (va_Nc.of (bL (bL (bR (bL (bR (bR (bR (bR (bL hN)))))))))) (fa (va_Nc.of (bL (bL (bR (bR (bL (bR (bL (bR (bL hN)))))))))) (fa (va_Nc.of (bL (bL (bL (bL (bL (bR (bL (bR (bL hN)))))))))) (fa (va_Nc.of (bL (bR (bL (bR (bR (bL (bL (bL (bL (bL (bR hN)))))))))))) (fa (va_Nc.of (bL (bR (bR (bL (bR (bR (bR (bR (bR (bL hN))))))))))) (fa (va_Nc.of (bL (bR (bL (bL (bR (bR (bL (bR (bL hN)))))))))) (fa (va_Nc.of (bL (bR (bL (bR (bR (bR (bL (bL (bR (bL hN))))))))))) (fa (va_Nc.of (bR (bR (bL (bR (bL (bL (bR (bR (bR (bL hN))))))))))) (fa (va_Nc.of (bR (bR (bR (bR (bL (bR (bR (bR (bR (bL hN))))))))))) (fa (va_Nc.of (bR (bL (bR (bR (bR (bL (bR (bL (bR (bL hN))))))))))) (fa (va_Nc.of (bR (bL (bR (bR (bR (bR (bL (bL (bR (bL hN))))))))))) (fa (va_Nc.of (bR (bR (bR (bR (bL (bL (bR (bR (bR (bL hN))))))))))) (fa (va_Nc.of (bL (bR (bR (bL (bR (bL (bL (bL (bL (bL (bR hN)))))))))))) (fa (va_Nc.of (bL (bL (bL (bL (bR (bR (bL (bR (bL hN)))))))))) (fa (va_Nc.of (bL (bR (bL (bR (bR (bL (bL (bR (bL hN)))))))))) (fa (va_Nc.of (bL (bR (bR (bL (bL (bL (bR (bR (bR (bL hN))))))))))) (fa (va_Nc.of (bL (bR (bR (bR (bL (bL (bL (bL (bL (bL (bR hN)))))))))))) (fa (va_Nc.of (bL (bR (bL (bR (bL (bR (bR (bR (bR (bL hN))))))))))) (fn))))))))))))))))))))
theorem zFws_start (hts : ∀ w, w ∈ lw_tbl → w.before args s = true) : ∀ q, q ∈ zFws → va_Fw q.1 q.2.1 q.2.2 s :=
  fa (va_Fw.of (hts _ q1317) (hts _ q1316) (hts _ q1332) (hts _ q1330) (hts _ q1328)) (fa (va_Fw.of (hts _ q1337) (hts _ q1336) (hts _ q1418) (hts _ q1416) (hts _ q1328)) (fa (va_Fw.of (hts _ q1761) (hts _ q1760) (hts _ q1798) (hts _ q1796) (hts _ q1328)) (fa (va_Fw.of (hts _ q1167) (hts _ q1166) (hts _ q1224) (hts _ q1222) (hts _ q1220)) (fa (va_Fw.of (hts _ q1167) (hts _ q1166) (hts _ q1172) (hts _ q1219) (hts _ q1217)) (fn)))))
theorem zNw_start (hts : ∀ w, w ∈ lw_tbl → w.before args s = true) (hN : narrow_1.before args s = true) : ∀ w, w ∈ zNw → va_Nw w s := by
  intro w hw
  rcases List.mem_append.mp hw with hw | hw
  · obtain ⟨h1, h2⟩ := List.mem_filter.mp hw
    have h := hts w h1
    cases w with
    | fieldLinkNest a b c d e f => exact va_Nw.of rfl h
    | methodLinkNest a b c d => exact va_Nw.of rfl h
    | declares x => exact va_Nw.of rfl h
    | castable a b => exact va_Nw.of rfl h
    | privateMethod x => exact va_Nw.of rfl h
    | arrayOver t => exact h
    | _ => exact Bool.noConfusion h2
  · have hd := (bL (bL (bL (bL (bL (bL (bL (bL (bL hN)))))))))
    rcases List.mem_cons.mp hw with rfl | hw
    · exact va_Nw.of rfl (bL hd)
    · rcases List.mem_cons.mp hw with rfl | hw
      · exact va_Nw.of rfl (bL (bR hd))
      · cases hw
theorem zTab_start (hts : ∀ w, w ∈ lw_tbl → w.before args s = true) (hN : narrow_1.before args s = true) : ∃ D, zTab D s := by
  have hal : ∀ w, w ∈ lw_all → w.before args s = true := fun w h => hts w (lw_all_tbl h)
  have h0 : ∀ c : Nat, ∃ d : ClassId × (Nat → Nat), ∀ q : vw_C, zcl[c]? = some q → u_Kn s q.1 q.2.1 q.2.2 d.1 d.2 := by
    intro c
    cases hq : zcl[c]? with
    | none => exact ⟨(0, fun _ => 0), fun q h => by cases h⟩
    | some q =>
      have hc : c < 24 := (List.getElem?_eq_some_iff.mp hq).1
      rcases Nat.lt_or_ge c 20 with h3 | h3
      · obtain ⟨C, T, N, ty, hC⟩ := zC_all (c := 100 + c) (by omega) (by omega)
        have e : zcl[c]? = some (C, T, N) := by have := hC.1; rwa [show 100 + c - 100 = c by omega] at this
        have e2 : q = (C, T, N) := Option.some.inj (hq.symm.trans e)
        obtain ⟨cC, iS, hk⟩ := u_known hal hC.2.2.1 (hal _ hC.2.2.2.2.2.2.1)
        refine ⟨(cC, iS), fun q' h' => ?_⟩
        rw [← Option.some.inj h', e2]
        exact hk
      · obtain ⟨N, hN2⟩ := zInst (kd := 100 + c) (by omega) (by omega)
        obtain ⟨cC, hat⟩ := classAt_of (hal _ hN2)
        have h0 : q.2.2 = 0 ∧ zcn (100 + c - 100) = q.1 := by
          refine ⟨?_, by rw [show 100 + c - 100 = c by omega]; unfold zcn; rw [hq]⟩
          rcases (show c = 20 ∨ c = 21 ∨ c = 22 ∨ c = 23 by omega) with z | z | z | z <;> subst z <;> (cases hq; rfl)
        refine ⟨(cC, fun _ => 0), fun q' h' => ?_⟩
        rw [← Option.some.inj h']
        refine ⟨fun k hk => ?_, by rw [← h0.2]; exact hat⟩
        rw [h0.1] at hk
        exact absurd hk (Nat.not_lt_zero _)
  obtain ⟨d, hd⟩ := Classical.axiomOfChoice h0
  exact ⟨(fun c => (d c).1, fun c => (d c).2), zNw_start hts hN, zFws_start hts, zNcs_start hN, ⟨fun c q h => hd c q h, fun k q h => by cases h⟩⟩
end
