/-! From a run of the law in the mini machine to the real machine's run of it. -/
def R_law : String := "RepeatFreeLaw"
def lw_P (b : Addr) (xs : List Int32) (args : Array Value) (s : State) : Prop := args = #[.ref b] ∧ s.IntsAt b xs ∧ xs.length ≤ 144 ∧ (Jvm.Cond.and given_1 narrow_1).before args s = true
def lw_Q (_ : Array Value) (s : State) (o : Outcome) (t : State) : Prop := o = .returned (some (.int 1)) ∧ Framed s o t [] 1200144 5497210
def lw_Z (below : List Frame) (a : Array Value) (s : State) : State → Prop := fun t => ∃ o, t.status = .running ∧ Ended t below o ∧ lw_Q a s o t
/-- what holds at the law's entry -/
def lw_At (p : Program) (s : State) (m : MethodId) (meth : Method) (c : Code) (b L : Nat) (xs : Nat → Int32) : Prop :=
  p.tables.exec = Jvm.exec ∧ c.code = code ∧ meth.sig.returnType = ret ∧ c.maxLocals = 8 ∧ s.vm.findClass R_law = some m.cls ∧ (∀ w ∈ lw_tbl, w.before #[Value.ref b] s = true) ∧ va_X b L xs s s.heap ∧ b < s.heap.size ∧ meth.locks = false ∧ (Jvm.Cond.and given_1 narrow_1).before #[Value.ref b] s = true ∧ meth.name = "law" ∧ c.exceptionTable.toList = []
/-- WHAT IS LEFT TO SHOW, in the mini machine alone: the law comes to its end with true, in its room, for every script -/
def ZLawGoal : Prop := ∀ (L : Nat) (xs : Nat → Int), L ≤ 144 → (∀ j, -2147483648 ≤ xs j ∧ xs j ≤ 2147483647) → ∃ h1, WP 335 0 0 (zin 335 [vA (some 54)]) [] (hcs L xs) (fun o h' => o = .inl (some (vI 1)) ∧ h' = h1) ∧ hn h1 ≤ 1200144 ∧ hs h1 ≤ 5497210
theorem whole_of (hZ : ZLawGoal) {p : Program} {e : Env} {s : State} {m : MethodId} {below : List Frame} {meth : Method} {c : Code} (l : Launch) (hflags : l.flags = flags0) {b L : Nat} {xs : Nat → Int32} (hL : L ≤ 144) (C0 : lw_At p s m meth c b L xs) : W p l e room_1 s m #[Value.ref b] below meth c s.heap [] 0 0 (lw_Z below #[Value.ref b] s) (entryFrame m ([Value.ref b] : List Value).toArray 8) := by
  obtain ⟨hx, hb, hr, hml, hown, hts, hX, hbl, hlk, hgv, hnm, htb⟩ := C0
  have hN : narrow_1.before #[Value.ref b] s = true := bR hgv
  have hA0 : ∀ a : Nat, a < s.heap.size → ¬ (fun q => s.heap.size ≤ q) a := fun a h1 h2 => absurd h1 (Nat.not_lt.mpr h2)
  obtain ⟨D, hT⟩ := zTab_start hts hN
  obtain ⟨ρ, r54, rnull, hC⟩ := zCon_start (A := fun q => s.heap.size ≤ q) hts hN hX hbl hL hA0
  obtain ⟨h1, ⟨n, q⟩, g1, g2⟩ := hZ L (fun j => (xs j).toInt) hL (fun j => i32_rng _)
  have hgr := WPn_gr q
  have hn0 : hn (hcs L (fun j => (xs j).toInt)) = 55 := rfl
  have hs0 : hs (hcs L (fun j => (xs j).toInt)) = 0 := rfl
  have hst : l.stackTraces = false := by
    unfold Launch.stackTraces
    rw [hflags]
    decide +kernel
  have C : zCx zMl zSR p l room_1 s m #[Value.ref b] meth c D (fun q => s.heap.size ≤ q) ρ (hcs L (fun j => (xs j).toInt)) (hcs L (fun j => (xs j).toInt)) h1 335 0 zI335.1 zI335.2.1 zI335.2.2.1 zI335.2.2.2 :=
    ⟨hx, hst, hb, hml, hown, hnm, hr, hlk, htb, fun w hw => hts w (lw_all_tbl hw), hT, hC, Nat.le_refl 55, fun q h => h, ⟨Nat.le_of_ble_eq_true rfl, Nat.le_of_ble_eq_true rfl, Nat.le_of_ble_eq_true rfl⟩, ⟨by rw [hn0]; show hn h1 - 55 ≤ 1200144; omega, by rw [hs0]; show hs h1 - 0 ≤ 5497210; omega, hgr.1, hgr.2⟩⟩
  have kk := zsound zAll_ok n 335 0 0 _ [] _ _ h1 zI335 zGood_law q p l e room_1 s m #[Value.ref b] below meth c D (fun q => s.heap.size ≤ q) ρ _ _ C
  obtain ⟨ls, e1, e2, e3⟩ := zin_loc (m := 335) (ρ := ρ) (N := 55) (as := [vA (some 54)]) rnull (fun v hv => by
    rcases List.mem_cons.mp hv with rfl | hv
    · exact vok_a (fun a z => by cases z; omega)
    · cases hv) (Nat.le_of_ble_eq_true rfl) m
  have ea : [vA (some 54)].map (cv ρ) = [Value.ref b] := by show [ρ 54] = _; rw [r54]
  rw [ea] at e1
  have e1 : entryFrame m ([Value.ref b] : List Value).toArray 8 = F0 m 0 ls [] := e1
  have hrel : zRel D ρ (fun _ => 0) (fun q => s.heap.size ≤ q) (hcs L (fun j => (xs j).toInt)) s s.heap := by
    have ew : zWl ρ (fun _ => 0) (hcs L (fun j => (xs j).toInt)) = [] := rfl
    refine ⟨?_, ?_, ⟨Nat.le_refl 55, fun a a1 a2 => absurd a2 (Nat.not_lt.mpr a1)⟩, fun a a1 a2 => absurd a2 (Nat.not_lt.mpr a1), fun a a1 a2 => absurd a2 (Nat.not_lt.mpr a1)⟩
    · rw [ew]; intro k q h; cases h
    · rw [ew]; exact ⟨fun i j p q h => (by cases h), fun k q h => (by cases h)⟩
  have k2 := kk ρ (fun _ => 0) s.heap [] ls ⟨fun _ _ => rfl, hrel, va_S.rf, fun _ _ => ⟨rfl, rfl⟩, ⟨Nat.le_refl _, Nat.le_refl _⟩, rnull⟩ e2 e3 (fun v hv => by cases hv)
  rw [Nat.sub_self, Nat.sub_self] at k2
  rw [e1]
  intro T hT X
  obtain ⟨t, a1, o', st, en, hQ⟩ := k2 T hT X
  refine ⟨t, a1, o', st, en, ?_⟩
  rcases hQ with ⟨hq, Lc, hF, hLc⟩ | ⟨q, -, E, ce, L', hx, -⟩
  · obtain ⟨ρ', κ', -, -, -, ho⟩ := hq
    have ho : o' = .returned (some (.int 1)) := ho
    refine ⟨ho, ⟨_, ho⟩, hF.2.1, ?_⟩
    refine hF.2.2.weaken (fun y hy hlt => absurd hlt (Nat.not_lt.mpr (hLc y hy))) ?_ ?_
    · rw [hn0]; omega
    · rw [hs0]; omega
  · obtain ⟨ρ', κ', e0, ho, -⟩ := hx
    cases ho
