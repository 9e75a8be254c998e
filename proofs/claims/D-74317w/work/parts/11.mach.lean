/-! A MINI MACHINE of our own: values with whole numbers, a heap of objects and arrays, code with resolved operands; runs by fuel. -/
def V : Type := Int ⊕ (Int ⊕ (Option Nat ⊕ Unit))
def vI (x : Int) : V := Sum.inl x
def vL (x : Int) : V := Sum.inr (Sum.inl x)
def vA (r : Option Nat) : V := Sum.inr (Sum.inr (Sum.inl r))
def vJ : V := Sum.inr (Sum.inr (Sum.inr ()))
/-- wrap to 32, to 64 bits; narrow to a byte, to a char -/
def wr (x : Int) : Int := (x + 2147483648) % 4294967296 - 2147483648
def wl (x : Int) : Int := (x + 9223372036854775808) % 18446744073709551616 - 9223372036854775808
def wb (x : Int) : Int := (x + 128) % 256 - 128
def wc (x : Int) : Int := x % 65536
theorem wr_id {x : Int} (h : -2147483648 ≤ x ∧ x ≤ 2147483647) : wr x = x := by unfold wr; omega
theorem wl_id {x : Int} (h : -9223372036854775808 ≤ x ∧ x ≤ 9223372036854775807) : wl x = x := by unfold wl; omega
theorem wb_id {x : Int} (h : -128 ≤ x ∧ x ≤ 127) : wb x = x := by unfold wb; omega
theorem wc_id {x : Int} (h : 0 ≤ x ∧ x ≤ 65535) : wc x = x := by unfold wc; omega
def MH : Type := (Nat × Nat) × (Nat → Nat × Nat) × (Nat → Nat → V)
def hn (h : MH) : Nat := h.1.1
def hs (h : MH) : Nat := h.1.2
def hk (h : MH) : Nat → Nat × Nat := h.2.1
def hm (h : MH) : Nat → Nat → V := h.2.2
def hput (h : MH) (a k : Nat) (v : V) : MH := (h.1, h.2.1, fun a' k' => if a' = a ∧ k' = k then v else h.2.2 a' k')
def hnew (h : MH) (kd : Nat × Nat) (sl : Nat) (f : Nat → V) : MH := ((hn h + 1, hs h + sl), (fun a => if a = hn h then kd else hk h a), fun a k => if a = hn h then f k else hm h a k)
theorem hn_put (h : MH) (a k : Nat) (v : V) : hn (hput h a k v) = hn h := rfl
theorem hs_put (h : MH) (a k : Nat) (v : V) : hs (hput h a k v) = hs h := rfl
theorem hk_put (h : MH) (a k : Nat) (v : V) : hk (hput h a k v) = hk h := rfl
theorem hm_put (h : MH) (a k : Nat) (v : V) (a' k' : Nat) : hm (hput h a k v) a' k' = if a' = a ∧ k' = k then v else hm h a' k' := rfl
theorem hn_new (h : MH) (kd : Nat × Nat) (sl : Nat) (f : Nat → V) : hn (hnew h kd sl f) = hn h + 1 := rfl
theorem hs_new (h : MH) (kd : Nat × Nat) (sl : Nat) (f : Nat → V) : hs (hnew h kd sl f) = hs h + sl := rfl
theorem hk_new (h : MH) (kd : Nat × Nat) (sl : Nat) (f : Nat → V) (a : Nat) : hk (hnew h kd sl f) a = if a = hn h then kd else hk h a := rfl
theorem hm_new (h : MH) (kd : Nat × Nat) (sl : Nat) (f : Nat → V) (a k : Nat) : hm (hnew h kd sl f) a k = if a = hn h then f k else hm h a k := rfl
