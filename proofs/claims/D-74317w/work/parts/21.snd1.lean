/-! What the mini machine's state means on the real one. -/
def cv (ρ : Nat → Value) (v : V) : Value := match v with
  | .inl x => .int (Int32.ofInt x)
  | .inr (.inl x) => .long (Int64.ofInt x)
  | .inr (.inr (.inl none)) => .null
  | .inr (.inr (.inl (some a))) => ρ a
  | .inr (.inr (.inr _)) => .null
def ca (ρ : Nat → Value) (a : Nat) : Nat := match ρ a with
  | .ref q => q
  | _ => 0
def vok (n : Nat) (v : V) : Prop := match v with
  | .inl x => -2147483648 ≤ x ∧ x ≤ 2147483647
  | .inr (.inl x) => -9223372036854775808 ≤ x ∧ x ≤ 9223372036854775807
  | .inr (.inr (.inl none)) => True
  | .inr (.inr (.inl (some a))) => a < n
  | .inr (.inr (.inr _)) => True
theorem vok_mono {n m : Nat} (h : n ≤ m) {v : V} (q : vok n v) : vok m v := by
  rcases v with x | x | (_ | a) | u
  · exact q
  · exact q
  · exact q
  · exact Nat.lt_of_lt_of_le q h
  · exact q
theorem cv_ext {ρ ρ' : Nat → Value} {n : Nat} (h : ∀ a, a < n → ρ' a = ρ a) {v : V} (q : vok n v) : cv ρ' v = cv ρ v := by
  rcases v with x | x | (_ | a) | u
  · rfl
  · rfl
  · rfl
  · exact h a q
  · rfl
def vi32 (v : V) : Int32 := match v with
  | .inl x => Int32.ofInt x
  | _ => 0
def vi64 (v : V) : Int64 := match v with
  | .inr (.inl x) => Int64.ofInt x
  | _ => 0
def vrf (ρ : Nat → Value) (v : V) : Option Nat := match v with
  | .inr (.inr (.inl (some a))) => some (ca ρ a)
  | _ => none
def zarr (ρ : Nat → Value) (t n : Nat) (m : Nat → V) : (Nat → Int32) ⊕ (Nat → Int64) ⊕ (Nat → UInt32) ⊕ (Nat → UInt64) ⊕ (Nat → Option Nat) :=
  if t ≤ 3 then .inl (fun k => if k < n then vi32 (m k) else 0) else if t = 4 then .inr (.inl (fun k => if k < n then vi64 (m k) else 0)) else .inr (.inr (.inr (.inr (fun k => if k < n then vrf ρ (m k) else none))))
def zE (ρ : Nat → Value) (κ : Nat → ClassId) (h : MH) (a : Nat) : va_E :=
  if 100 ≤ (hk h a).1 then .inr ((hk h a).1 - 100, (zOF (hk h a).1).map (fun f => cv ρ (hm h a f))) else .inl (κ a, (hk h a).2, zarr ρ (hk h a).1 (hk h a).2 (hm h a))
def zWl (ρ : Nat → Value) (κ : Nat → ClassId) (h : MH) : va_W := (List.range (hn h - 55)).map (fun j => (ca ρ (55 + j), zE ρ κ h (55 + j)))
/-- the classes, kind 100 + place -/
def zcl : List vw_C := [(RX1, TX1, 9), (RX2, TX2, 4), (RX3, TX3, 2), (RX7, TX7, 3), (RX9, TX9, 2), (RX10, TX10, 6), (RX12, TX12, 4), (RX11, TX11, 3), (RX5, TX5, 5), (RX6, TX6, 7), (RX4, TX4, 32), (RJ3, TJ3, 4), (RJ31, TJ31, 3), (RJ29, TJ29, 5), (RJ4, TJ4, 3), (RJ33, TJ33, 3), (RJ13, TJ13, 4), (RJ14, TJ14, 4), (RJ26, TJ26, 1), (RJ11, TJ11, 2), (RJ24, TX1, 0), (RJ32, TX1, 0), (RJ27, TX1, 0), (RJ30, TX1, 0)]
theorem zWl_get {ρ : Nat → Value} {κ : Nat → ClassId} {h : MH} {a : Nat} (h1 : 55 ≤ a) (h2 : a < hn h) : (zWl ρ κ h)[a - 55]? = some (ca ρ a, zE ρ κ h a) := by
  unfold zWl
  rw [List.getElem?_map, List.getElem?_range (by omega)]
  have e : 55 + (a - 55) = a := by omega
  simp only [Option.map_some, e]
theorem zWl_len {ρ : Nat → Value} {κ : Nat → ClassId} {h : MH} : (zWl ρ κ h).length = hn h - 55 := by unfold zWl; simp
/-- what an element of an array may be -/
def zelok (t : Nat) (v : V) : Prop := match t with
  | 1 => ∃ x, v = vI x
  | 2 => ∃ x, v = vI x ∧ -128 ≤ x ∧ x ≤ 127
  | 3 => ∃ x, v = vI x ∧ (x = 0 ∨ x = 1)
  | 4 => ∃ x, v = vL x
  | _ => v = vA none ∨ ∃ b, v = vA (some b) ∧ 3 ≤ b
/-- the heap is well formed -/
def hok (h : MH) : Prop := 55 ≤ hn h ∧ ∀ a, 55 ≤ a → a < hn h →
  (100 ≤ (hk h a).1 ∧ (hk h a).1 ≤ 123 ∧ ∀ f, f ∈ zOF (hk h a).1 → vok (hn h) (hm h a f) ∧ zok (zFT f) (hm h a f) = true) ∨
  (1 ≤ (hk h a).1 ∧ (hk h a).1 ≤ 7 ∧ (hk h a).2 ≤ 1000000 ∧ ∀ k, k < (hk h a).2 → vok (hn h) (hm h a k) ∧ zelok (hk h a).1 (hm h a k))
def zaty (t : Nat) : FieldType := match t with
  | 1 => .int
  | 2 => .byte
  | 3 => .boolean
  | 4 => .long
  | 5 => .object "java/lang/Object"
  | 6 => .object "RepeatFree$Pattern"
  | _ => .array .byte
/-- what the tables say of an array of arrays of bytes -/
def zRB (U : State) (cA : ClassId) : Prop := ∃ (kA : Class) (comp : ClassId), U.vm.classes[cA]? = some kA ∧ kA.kind = .array comp (.array .byte) ∧ U.vm.findClass "[B" = some comp
def zRA (U : State) (cA : ClassId) (t : Nat) : Prop := if t = 7 then zRB U cA else va_RA U cA (zaty t)
/-- the real heap holds the mini heap -/
def zRel (D : va_G) (ρ : Nat → Value) (κ : Nat → ClassId) (A : Nat → Prop) (h : MH) (U : State) (H : Heap) : Prop :=
  va_P D zcl (zWl ρ κ h) H ∧ va_D A (zWl ρ κ h) ∧ hok h ∧ (∀ a, 55 ≤ a → a < hn h → ρ a = .ref (ca ρ a)) ∧ (∀ a, 55 ≤ a → a < hn h → (hk h a).1 ≤ 7 → ArrOfT U (κ a) (zaty (hk h a).1) ∧ zRA U (κ a) (hk h a).1)
theorem zRB.moved {u U : State} (hvm : u.vm.Alike U.vm) {cA : ClassId} (h : zRB u cA) : zRB U cA := by
  obtain ⟨kA, comp, h1, h2, h3⟩ := h
  obtain ⟨k', hk', he⟩ := hvm.2.2 _ _ h1
  exact ⟨k', comp, hk', by rw [he]; exact h2, by rw [hvm.findClass]; exact h3⟩
theorem zRA.moved {u U : State} (hvm : u.vm.Alike U.vm) {cA : ClassId} {t : Nat} (h : zRA u cA t) : zRA U cA t := by
  unfold zRA at h ⊢
  by_cases ht : t = 7
  · rw [if_pos ht] at h ⊢; exact h.moved hvm
  · rw [if_neg ht] at h ⊢; exact h.moved hvm
theorem zRel.moved {D : va_G} {ρ : Nat → Value} {κ : Nat → ClassId} {A : Nat → Prop} {h : MH} {u U : State} {H : Heap} (hvm : u.vm.Alike U.vm) (q : zRel D ρ κ A h u H) : zRel D ρ κ A h U H :=
  ⟨q.1, q.2.1, q.2.2.1, q.2.2.2.1, fun a h1 h2 h3 => ⟨arrOfT_moved hvm (q.2.2.2.2 a h1 h2 h3).1, (q.2.2.2.2 a h1 h2 h3).2.moved hvm⟩⟩
/-- writing one place of one cell -/
theorem zWl_put {ρ : Nat → Value} {κ : Nat → ClassId} {h : MH} {a k : Nat} {v : V} (h1 : 55 ≤ a) (h2 : a < hn h) : zWl ρ κ (hput h a k v) = (zWl ρ κ h).set (a - 55) (ca ρ a, zE ρ κ (hput h a k v) a) := by
  apply List.ext_getElem?
  intro i
  by_cases hi : i < hn h - 55
  · have e1 : (zWl ρ κ (hput h a k v))[i]? = some (ca ρ (55 + i), zE ρ κ (hput h a k v) (55 + i)) := by
      have := zWl_get (ρ := ρ) (κ := κ) (h := hput h a k v) (a := 55 + i) (by omega) (by rw [hn_put]; omega)
      rwa [show 55 + i - 55 = i by omega] at this
    rw [e1]
    by_cases hia : i = a - 55
    · subst hia
      rw [List.getElem?_set_self (by rw [zWl_len]; exact hi)]
      rw [show 55 + (a - 55) = a by omega]
    · rw [List.getElem?_set_ne (fun z => hia z.symm)]
      have := zWl_get (ρ := ρ) (κ := κ) (h := h) (a := 55 + i) (by omega) (by omega)
      rw [show 55 + i - 55 = i by omega] at this
      rw [this]
      have e2 : zE ρ κ (hput h a k v) (55 + i) = zE ρ κ h (55 + i) := by
        unfold zE
        have e3 : hm (hput h a k v) (55 + i) = hm h (55 + i) := by
          funext j
          rw [hm_put, if_neg (fun z => hia (by omega))]
        rw [hk_put, e3]
      rw [e2]
  · rw [List.getElem?_eq_none (by rw [zWl_len, hn_put]; omega), List.getElem?_eq_none (by rw [List.length_set, zWl_len]; omega)]
/-- a new cell -/
theorem zE_ext {ρ ρ' : Nat → Value} {κ κ' : Nat → ClassId} {h h' : MH} {a : Nat} (hok0 : hok h) (h1 : 55 ≤ a) (h2 : a < hn h) (hρ : ∀ b, b < hn h → ρ' b = ρ b) (hκ : κ' a = κ a) (hkk : hk h' a = hk h a) (hmm : hm h' a = hm h a) : zE ρ' κ' h' a = zE ρ κ h a := by
  unfold zE
  rw [hkk, hmm, hκ]
  rcases hok0.2 a h1 h2 with ⟨g1, g2, g3⟩ | ⟨g1, g2, -, g3⟩
  · rw [if_pos g1, if_pos g1]
    congr 2
    apply List.map_congr_left
    intro f hf
    exact cv_ext hρ (g3 f hf).1
  · rw [if_neg (by omega), if_neg (by omega)]
    congr 3
    unfold zarr
    split
    · rfl
    · split
      · rfl
      · congr 4
        funext k
        by_cases hk0 : k < (hk h a).2
        · rw [if_pos hk0, if_pos hk0]
          have g4 := (g3 k hk0).1
          revert g4
          generalize hm h a k = v
          intro g4
          rcases v with x | x | (_ | b) | u
          · rfl
          · rfl
          · rfl
          · show some (ca ρ' b) = some (ca ρ b)
            unfold ca
            rw [hρ b g4]
          · rfl
        · rw [if_neg hk0, if_neg hk0]
def zup {α : Type} (ρ : Nat → α) (a : Nat) (v : α) : Nat → α := fun b => if b = a then v else ρ b
theorem zup_s {α : Type} (ρ : Nat → α) (a : Nat) (v : α) : zup ρ a v a = v := if_pos rfl
theorem zup_n {α : Type} (ρ : Nat → α) {a b : Nat} (v : α) (h : b ≠ a) : zup ρ a v b = ρ b := if_neg h
theorem zWl_new {ρ : Nat → Value} {κ : Nat → ClassId} {h : MH} {kd : Nat × Nat} {sl : Nat} {f : Nat → V} {q : Nat} {c : ClassId} (hok0 : hok h) : zWl (zup ρ (hn h) (.ref q)) (zup κ (hn h) c) (hnew h kd sl f) = zWl ρ κ h ++ [(q, zE (zup ρ (hn h) (.ref q)) (zup κ (hn h) c) (hnew h kd sl f) (hn h))] := by
  have h55 := hok0.1
  apply List.ext_getElem?
  intro i
  rcases Nat.lt_trichotomy i (hn h - 55) with hi | hi | hi
  · have e1 := zWl_get (ρ := zup ρ (hn h) (.ref q)) (κ := zup κ (hn h) c) (h := hnew h kd sl f) (a := 55 + i) (by omega) (by rw [hn_new]; omega)
    have e2 := zWl_get (ρ := ρ) (κ := κ) (h := h) (a := 55 + i) (by omega) (by omega)
    rw [show 55 + i - 55 = i by omega] at e1 e2
    rw [e1, List.getElem?_append_left (by rw [zWl_len]; exact hi), e2]
    have e3 : zE (zup ρ (hn h) (.ref q)) (zup κ (hn h) c) (hnew h kd sl f) (55 + i) = zE ρ κ h (55 + i) := by
      refine zE_ext hok0 (by omega) (by omega) (fun b hb => zup_n _ _ (by omega)) (zup_n _ _ (by omega)) ?_ ?_
      · rw [hk_new, if_neg (by omega)]
      · funext j; rw [hm_new, if_neg (by omega)]
    have e4 : ca (zup ρ (hn h) (.ref q)) (55 + i) = ca ρ (55 + i) := by unfold ca; rw [zup_n _ _ (by omega)]
    rw [e3, e4]
  · subst hi
    have e1 := zWl_get (ρ := zup ρ (hn h) (.ref q)) (κ := zup κ (hn h) c) (h := hnew h kd sl f) (a := hn h) (by omega) (by rw [hn_new]; omega)
    rw [e1, List.getElem?_append_right (by rw [zWl_len]; omega), zWl_len, Nat.sub_self]
    have e4 : ca (zup ρ (hn h) (.ref q)) (hn h) = q := by unfold ca; rw [zup_s]
    rw [e4]
    rfl
  · rw [List.getElem?_eq_none (by rw [zWl_len, hn_new]; omega), List.getElem?_eq_none (by rw [List.length_append, zWl_len]; simp; omega)]
/-- the tables' fields, each at its place -/
def zfd (c k : Nat) : String × String × String × Bool := match zcl[c]? with
  | some q => q.2.1 k
  | none => ("", "", "", false)
def zcn (c : Nat) : String := match zcl[c]? with
  | some q => q.1
  | none => ""
theorem zOF_nd : (List.range 24).all (fun c => decide ((zOF (100 + c)).Nodup)) = true := by decide +kernel
theorem zOF_nd' {c : Nat} (h1 : 100 ≤ c) (h2 : c ≤ 123) : (zOF c).Nodup := by
  have := List.all_eq_true.mp zOF_nd (c - 100) (List.mem_range.mpr (by omega))
  rw [show 100 + (c - 100) = c by omega] at this
  exact of_decide_eq_true this
theorem zok_df : (List.range 106).all (fun f => zok (zFT f) (zdf f) || decide (f = 0)) = true := by decide +kernel
/-- an object's fields behind a write -/
theorem zset_map {l : List Nat} (hnd : l.Nodup) {f k : Nat} (hk0 : l[k]? = some f) (g g' : Nat → Value) (w : Value) (h1 : g' f = w) (h2 : ∀ x, x ≠ f → g' x = g x) : (l.map g).set k w = l.map g' := by
  apply List.ext_getElem?
  intro i
  by_cases hi : i = k
  · subst hi
    have hl := (List.getElem?_eq_some_iff.mp hk0).1
    rw [List.getElem?_set_self (by simpa using hl), List.getElem?_map, hk0]
    simp [h1]
  · rw [List.getElem?_set_ne (fun z => hi z.symm), List.getElem?_map, List.getElem?_map]
    cases hx : l[i]? with
    | none => rfl
    | some x =>
      have : x ≠ f := by
        intro z
        subst z
        have a1 := List.getElem?_eq_some_iff.mp hx
        have a2 := List.getElem?_eq_some_iff.mp hk0
        exact hi ((List.getElem_inj hnd).mp (a1.2.trans a2.2.symm))
      simp [h2 x this]
theorem zE_obj {ρ : Nat → Value} {κ : Nat → ClassId} {h : MH} {a : Nat} (hc : 100 ≤ (hk h a).1) : zE ρ κ h a = .inr ((hk h a).1 - 100, (zOF (hk h a).1).map (fun f => cv ρ (hm h a f))) := if_pos hc
theorem zE_arr {ρ : Nat → Value} {κ : Nat → ClassId} {h : MH} {a : Nat} (hc : ¬ 100 ≤ (hk h a).1) : zE ρ κ h a = .inl (κ a, (hk h a).2, zarr ρ (hk h a).1 (hk h a).2 (hm h a)) := if_neg hc
theorem zE_putf {ρ : Nat → Value} {κ : Nat → ClassId} {h : MH} {a f k : Nat} {v : V} (hc1 : 100 ≤ (hk h a).1) (hc2 : (hk h a).1 ≤ 123) (hk0 : (zOF (hk h a).1)[k]? = some f) : zE ρ κ (hput h a f v) a = .inr ((hk h a).1 - 100, ((zOF (hk h a).1).map (fun f => cv ρ (hm h a f))).set k (cv ρ v)) := by
  rw [zE_obj (by rw [hk_put]; exact hc1), hk_put]
  congr 2
  refine (zset_map (zOF_nd' hc1 hc2) hk0 _ _ _ ?_ ?_).symm
  · show cv ρ (hm (hput h a f v) a f) = _
    rw [hm_put, if_pos ⟨rfl, rfl⟩]
  · intro x hx
    show cv ρ (hm (hput h a f v) a x) = _
    rw [hm_put, if_neg (fun z => hx z.2)]
theorem hok_put {h : MH} {a k : Nat} {v : V} (q : hok h) (h1 : 55 ≤ a) (h2 : a < hn h) (hv : vok (hn h) v) (hf : 100 ≤ (hk h a).1 → zok (zFT k) v = true) (ha : (hk h a).1 ≤ 7 → zelok (hk h a).1 v) : hok (hput h a k v) := by
  refine ⟨q.1, fun b g1 g2 => ?_⟩
  rw [hk_put]
  rw [hn_put] at g2 ⊢
  rcases q.2 b g1 g2 with ⟨c1, c2, c3⟩ | ⟨c1, c2, c3, c4⟩
  · refine Or.inl ⟨c1, c2, fun f hf0 => ?_⟩
    rw [hm_put]
    split
    · rename_i z
      obtain ⟨rfl, rfl⟩ := z
      exact ⟨hv, hf c1⟩
    · exact c3 f hf0
  · refine Or.inr ⟨c1, c2, c3, fun j hj => ?_⟩
    rw [hm_put]
    split
    · rename_i z
      obtain ⟨rfl, rfl⟩ := z
      exact ⟨hv, ha c2⟩
    · exact c4 j hj
/-- behind a write: the rows' world is the mini heap's -/
theorem zRel.put {D : va_G} {ρ : Nat → Value} {κ : Nat → ClassId} {A : Nat → Prop} {h : MH} {U : State} {H H1 : Heap} {a k : Nat} {v : V} (q : zRel D ρ κ A h U H) (h1 : 55 ≤ a) (h2 : a < hn h) (hv : vok (hn h) v) (hf : 100 ≤ (hk h a).1 → zok (zFT k) v = true) (ha : (hk h a).1 ≤ 7 → zelok (hk h a).1 v)
    (hP : va_P D zcl ((zWl ρ κ h).set (a - 55) (ca ρ a, zE ρ κ (hput h a k v) a)) H1) (hD : va_D A ((zWl ρ κ h).set (a - 55) (ca ρ a, zE ρ κ (hput h a k v) a))) : zRel D ρ κ A (hput h a k v) U H1 := by
  rw [← zWl_put h1 h2] at hP hD
  exact ⟨hP, hD, hok_put q.2.2.1 h1 h2 hv hf ha, q.2.2.2.1, q.2.2.2.2⟩
theorem hok_new {h : MH} {kd : Nat × Nat} {sl : Nat} {f : Nat → V} (q : hok h) (hkd : (100 ≤ kd.1 ∧ kd.1 ≤ 123 ∧ ∀ i, i ∈ zOF kd.1 → vok (hn h + 1) (f i) ∧ zok (zFT i) (f i) = true) ∨ (1 ≤ kd.1 ∧ kd.1 ≤ 7 ∧ kd.2 ≤ 1000000 ∧ ∀ k, k < kd.2 → vok (hn h + 1) (f k) ∧ zelok kd.1 (f k))) : hok (hnew h kd sl f) := by
  refine ⟨by rw [hn_new]; exact Nat.le_succ_of_le q.1, fun b g1 g2 => ?_⟩
  rw [hn_new] at g2 ⊢
  rw [hk_new]
  by_cases hb : b = hn h
  · subst hb
    rw [if_pos rfl]
    have e : hm (hnew h kd sl f) (hn h) = f := by funext j; rw [hm_new, if_pos rfl]
    rw [e]
    exact hkd
  · rw [if_neg hb]
    have e : hm (hnew h kd sl f) b = hm h b := by funext j; rw [hm_new, if_neg hb]
    rw [e]
    rcases q.2 b g1 (by omega) with ⟨c1, c2, c3⟩ | ⟨c1, c2, c3, c4⟩
    · exact Or.inl ⟨c1, c2, fun i hi => ⟨vok_mono (Nat.le_succ _) (c3 i hi).1, (c3 i hi).2⟩⟩
    · exact Or.inr ⟨c1, c2, c3, fun i hi => ⟨vok_mono (Nat.le_succ _) (c4 i hi).1, (c4 i hi).2⟩⟩
theorem zRel.new {D : va_G} {ρ : Nat → Value} {κ : Nat → ClassId} {A : Nat → Prop} {h : MH} {U : State} {H H1 : Heap} {kd : Nat × Nat} {sl : Nat} {f : Nat → V} {x : Nat} {c : ClassId} (q : zRel D ρ κ A h U H) (hkd : (100 ≤ kd.1 ∧ kd.1 ≤ 123 ∧ ∀ i, i ∈ zOF kd.1 → vok (hn h + 1) (f i) ∧ zok (zFT i) (f i) = true) ∨ (1 ≤ kd.1 ∧ kd.1 ≤ 7 ∧ kd.2 ≤ 1000000 ∧ ∀ k, k < kd.2 → vok (hn h + 1) (f k) ∧ zelok kd.1 (f k)))
    (hc : kd.1 ≤ 7 → ArrOfT U c (zaty kd.1) ∧ zRA U c kd.1)
    (hP : va_P D zcl (zWl ρ κ h ++ [(x, zE (zup ρ (hn h) (.ref x)) (zup κ (hn h) c) (hnew h kd sl f) (hn h))]) H1) (hD : va_D A (zWl ρ κ h ++ [(x, zE (zup ρ (hn h) (.ref x)) (zup κ (hn h) c) (hnew h kd sl f) (hn h))])) : zRel D (zup ρ (hn h) (.ref x)) (zup κ (hn h) c) A (hnew h kd sl f) U H1 := by
  rw [← zWl_new q.2.2.1] at hP hD
  refine ⟨hP, hD, hok_new q.2.2.1 hkd, fun a g1 g2 => ?_, fun a g1 g2 g3 => ?_⟩
  · rw [hn_new] at g2
    by_cases ha : a = hn h
    · subst ha; unfold ca; rw [zup_s]
    · have := q.2.2.2.1 a g1 (by omega)
      unfold ca at this ⊢
      rw [zup_n _ _ ha]; exact this
  · rw [hn_new] at g2
    rw [hk_new] at g3 ⊢
    by_cases ha : a = hn h
    · subst ha
      rw [if_pos rfl] at g3 ⊢
      rw [zup_s]
      exact hc g3
    · rw [if_neg ha] at g3 ⊢
      rw [zup_n _ _ ha]
      exact q.2.2.2.2 a g1 (by omega) g3
