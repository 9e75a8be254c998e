/-! Going on from a place of a method: what the real machine does there, told of the mini machine's state. -/
def zSt (D : va_G) (A : Nat → Prop) (ρs : Nat → Value) (hc h0 : MH) (s : State) (ρ : Nat → Value) (κ : Nat → ClassId) (h : MH) (H : Heap) (locs : List Loc) : Prop :=
  (∀ a, a < hn h0 → ρ a = ρs a) ∧ zRel D ρ κ A h s H ∧ va_S A s.heap H locs ∧ (∀ a, a < 55 → hk h a = hk hc a ∧ hm h a = hm hc a) ∧ (hn h0 ≤ hn h ∧ hs h0 ≤ hs h) ∧ (∀ a, a < hn h → ρ a = .null ∨ ∃ q, ρ a = .ref q)
def ZGo (p : Program) (l : Launch) (e : Env) (R : Room) (s : State) (m : MethodId) (args : Array Value) (below : List Frame) (meth : Method) (c : Code) (Qf : State → Prop) (D : va_G) (A : Nat → Prop) (ρs : Nat → Value) (hc h0 : MH) (nL pc : Nat) (L S : List V) (h : MH) : Prop :=
  ∀ (ρ : Nat → Value) (κ : Nat → ClassId) (H : Heap) (locs : List Loc) (ls : Array Slot), zSt D A ρs hc h0 s ρ κ h H locs → zLoc ρ nL L ls → (∀ v ∈ L, vok (hn h) v) → (∀ v ∈ S, vok (hn h) v ∧ v ≠ vJ) → W p l e R s m args below meth c H locs (hn h - hn h0) (hs h - hs h0) Qf (F0 m pc ls (S.map (cv ρ)))
section
variable {p : Program} {l : Launch} {e : Env} {R : Room} {s : State} {m : MethodId} {args : Array Value} {below : List Frame} {meth : Method} {c : Code} {Qf : State → Prop} {D : va_G} {A : Nat → Prop} {ρs : Nat → Value} {hc h0 : MH} {nL pc nx : Nat} {L S : List V} {h : MH} {cc : ByteArray} {x y : Int} {r q : Option Nat} {a b : Nat}
/-- what is on a stack behind a step: the old rest, and new values in range -/
theorem vok_i {n : Nat} {x : Int} (h : -2147483648 ≤ x ∧ x ≤ 2147483647) : vok n (vI x) ∧ vI x ≠ vJ := ⟨h, fun z => by cases z⟩
theorem vok_l {n : Nat} {x : Int} (h : -9223372036854775808 ≤ x ∧ x ≤ 9223372036854775807) : vok n (vL x) ∧ vL x ≠ vJ := ⟨h, fun z => by cases z⟩
theorem vok_a {n : Nat} {r : Option Nat} (h : ∀ a, r = some a → a < n) : vok n (vA r) ∧ vA r ≠ vJ := ⟨by
  cases r with
  | none => trivial
  | some a => exact h a rfl, fun z => by cases z⟩
theorem vok_ai {n : Nat} {r : Option Nat} (h : vok n (vA r)) (a : Nat) (e : r = some a) : a < n := by subst e; exact h
theorem all1 {P : V → Prop} {v : V} {S : List V} (h : P v) (hS : ∀ w ∈ S, P w) : ∀ w ∈ v :: S, P w := List.forall_mem_cons.mpr ⟨h, hS⟩
theorem tl1 {P : V → Prop} {v : V} {S : List V} (hS : ∀ w ∈ v :: S, P w) : ∀ w ∈ S, P w := (List.forall_mem_cons.mp hS).2
theorem hd1 {P : V → Prop} {v : V} {S : List V} (hS : ∀ w ∈ v :: S, P w) : P v := (List.forall_mem_cons.mp hS).1
/-- a row that only pushes: its value in range -/
theorem zg_i {pc' : Nat} {S0 : List V} {v : Int} (hr : -2147483648 ≤ v ∧ v ≤ 2147483647) (hsub : ∀ w ∈ S, w ∈ S0) (row : ∀ (H : Heap) (locs : List Loc) (cells slots : Nat) (ls : Array Slot) (ρ : Nat → Value), (∀ w ∈ S0, vok (hn h) w) → W p l e R s m args below meth c H locs cells slots Qf (F0 m pc' ls (.int (Int32.ofInt v) :: S.map (cv ρ))) → W p l e R s m args below meth c H locs cells slots Qf (F0 m pc ls (S0.map (cv ρ))))
    (k : ZGo p l e R s m args below meth c Qf D A ρs hc h0 nL pc' L (vI v :: S) h) : ZGo p l e R s m args below meth c Qf D A ρs hc h0 nL pc L S0 h := by
  intro ρ κ H locs ls g1 g2 g3 g4
  exact row H locs _ _ ls ρ (fun w hw => (g4 w hw).1) (k ρ κ H locs ls g1 g2 g3 (all1 (vok_i hr) fun w hw => g4 w (hsub w hw)))
theorem zg_l {pc' : Nat} {S0 : List V} {v : Int} (hr : -9223372036854775808 ≤ v ∧ v ≤ 9223372036854775807) (hsub : ∀ w ∈ S, w ∈ S0) (row : ∀ (H : Heap) (locs : List Loc) (cells slots : Nat) (ls : Array Slot) (ρ : Nat → Value), (∀ w ∈ S0, vok (hn h) w) → W p l e R s m args below meth c H locs cells slots Qf (F0 m pc' ls (.long (Int64.ofInt v) :: S.map (cv ρ))) → W p l e R s m args below meth c H locs cells slots Qf (F0 m pc ls (S0.map (cv ρ))))
    (k : ZGo p l e R s m args below meth c Qf D A ρs hc h0 nL pc' L (vL v :: S) h) : ZGo p l e R s m args below meth c Qf D A ρs hc h0 nL pc L S0 h := by
  intro ρ κ H locs ls g1 g2 g3 g4
  exact row H locs _ _ ls ρ (fun w hw => (g4 w hw).1) (k ρ κ H locs ls g1 g2 g3 (all1 (vok_l hr) fun w hw => g4 w (hsub w hw)))
theorem sub1 {v : V} {S : List V} : ∀ w ∈ S, w ∈ v :: S := fun _ h => List.mem_cons_of_mem _ h
theorem sub2 {v u : V} {S : List V} : ∀ w ∈ S, w ∈ v :: u :: S := fun _ h => List.mem_cons_of_mem _ (List.mem_cons_of_mem _ h)
theorem tmod_rng {x y : Int} (hx : -2147483648 ≤ x ∧ x ≤ 2147483647) (hy : -2147483648 ≤ y ∧ y ≤ 2147483647) (h0 : ¬ y = 0) : -2147483648 ≤ x.tmod y ∧ x.tmod y ≤ 2147483647 := by
  have h1 : (x.tmod y).natAbs ≤ x.natAbs := by rw [Int.natAbs_tmod]; exact Nat.mod_le _ _
  have h2 : (x.tmod y).natAbs < y.natAbs := by rw [Int.natAbs_tmod]; exact Nat.mod_lt _ (by omega)
  omega
theorem zs_iadd (hx : p.tables.exec = Jvm.exec) (hb : c.code = cc) (d : decode cc pc = .ok (.iadd, 1)) (k : ZGo p l e R s m args below meth c Qf D A ρs hc h0 nL (pc + 1) L (vI (wr (x + y)) :: S) h) : ZGo p l e R s m args below meth c Qf D A ρs hc h0 nL pc L (vI y :: vI x :: S) h := by
  refine zg_i (wr_rng _) sub2 (fun H locs cells slots ls ρ hv kk => ?_) k
  show W p l e R s m args below meth c H locs cells slots Qf (F0 m pc ls (.int (Int32.ofInt y) :: .int (Int32.ofInt x) :: S.map (cv ρ)))
  rw [cI_add] at kk
  exact lv_iadd hx hb d kk
theorem zs_isub (hx : p.tables.exec = Jvm.exec) (hb : c.code = cc) (d : decode cc pc = .ok (.isub, 1)) (k : ZGo p l e R s m args below meth c Qf D A ρs hc h0 nL (pc + 1) L (vI (wr (x - y)) :: S) h) : ZGo p l e R s m args below meth c Qf D A ρs hc h0 nL pc L (vI y :: vI x :: S) h := by
  refine zg_i (wr_rng _) sub2 (fun H locs cells slots ls ρ hv kk => ?_) k
  show W p l e R s m args below meth c H locs cells slots Qf (F0 m pc ls (.int (Int32.ofInt y) :: .int (Int32.ofInt x) :: S.map (cv ρ)))
  rw [cI_sub] at kk
  exact lv_isub hx hb d kk
theorem zs_imul (hx : p.tables.exec = Jvm.exec) (hb : c.code = cc) (d : decode cc pc = .ok (.imul, 1)) (k : ZGo p l e R s m args below meth c Qf D A ρs hc h0 nL (pc + 1) L (vI (wr (x * y)) :: S) h) : ZGo p l e R s m args below meth c Qf D A ρs hc h0 nL pc L (vI y :: vI x :: S) h := by
  refine zg_i (wr_rng _) sub2 (fun H locs cells slots ls ρ hv kk => ?_) k
  show W p l e R s m args below meth c H locs cells slots Qf (F0 m pc ls (.int (Int32.ofInt y) :: .int (Int32.ofInt x) :: S.map (cv ρ)))
  rw [cI_mul] at kk
  exact lv_imul hx hb d kk
theorem zs_iand (hx : p.tables.exec = Jvm.exec) (hb : c.code = cc) (d : decode cc pc = .ok (.iand, 1)) (k : ZGo p l e R s m args below meth c Qf D A ρs hc h0 nL (pc + 1) L (vI (zand x y) :: S) h) : ZGo p l e R s m args below meth c Qf D A ρs hc h0 nL pc L (vI y :: vI x :: S) h := by
  refine zg_i (i32_rng _) sub2 (fun H locs cells slots ls ρ hv kk => ?_) k
  show W p l e R s m args below meth c H locs cells slots Qf (F0 m pc ls (.int (Int32.ofInt y) :: .int (Int32.ofInt x) :: S.map (cv ρ)))
  unfold zand at kk
  rw [Int32.ofInt_toInt] at kk
  exact lv_iand hx hb d kk
theorem zs_ior (hx : p.tables.exec = Jvm.exec) (hb : c.code = cc) (d : decode cc pc = .ok (.ior, 1)) (k : ZGo p l e R s m args below meth c Qf D A ρs hc h0 nL (pc + 1) L (vI (zor x y) :: S) h) : ZGo p l e R s m args below meth c Qf D A ρs hc h0 nL pc L (vI y :: vI x :: S) h := by
  refine zg_i (i32_rng _) sub2 (fun H locs cells slots ls ρ hv kk => ?_) k
  show W p l e R s m args below meth c H locs cells slots Qf (F0 m pc ls (.int (Int32.ofInt y) :: .int (Int32.ofInt x) :: S.map (cv ρ)))
  unfold zor at kk
  rw [Int32.ofInt_toInt] at kk
  exact lv_ior hx hb d kk
theorem zs_ixor (hx : p.tables.exec = Jvm.exec) (hb : c.code = cc) (d : decode cc pc = .ok (.ixor, 1)) (k : ZGo p l e R s m args below meth c Qf D A ρs hc h0 nL (pc + 1) L (vI (zxor x y) :: S) h) : ZGo p l e R s m args below meth c Qf D A ρs hc h0 nL pc L (vI y :: vI x :: S) h := by
  refine zg_i (i32_rng _) sub2 (fun H locs cells slots ls ρ hv kk => ?_) k
  show W p l e R s m args below meth c H locs cells slots Qf (F0 m pc ls (.int (Int32.ofInt y) :: .int (Int32.ofInt x) :: S.map (cv ρ)))
  unfold zxor at kk
  rw [Int32.ofInt_toInt] at kk
  exact lv_ixor hx hb d kk
theorem zs_ishl (hx : p.tables.exec = Jvm.exec) (hb : c.code = cc) (d : decode cc pc = .ok (.ishl, 1)) (k : ZGo p l e R s m args below meth c Qf D A ρs hc h0 nL (pc + 1) L (vI (zshl x y) :: S) h) : ZGo p l e R s m args below meth c Qf D A ρs hc h0 nL pc L (vI y :: vI x :: S) h := by
  refine zg_i (i32_rng _) sub2 (fun H locs cells slots ls ρ hv kk => ?_) k
  show W p l e R s m args below meth c H locs cells slots Qf (F0 m pc ls (.int (Int32.ofInt y) :: .int (Int32.ofInt x) :: S.map (cv ρ)))
  unfold zshl at kk
  rw [Int32.ofInt_toInt] at kk
  exact lv_ishl hx hb d kk
theorem zs_ishr (hx : p.tables.exec = Jvm.exec) (hb : c.code = cc) (d : decode cc pc = .ok (.ishr, 1)) (k : ZGo p l e R s m args below meth c Qf D A ρs hc h0 nL (pc + 1) L (vI (zshr x y) :: S) h) : ZGo p l e R s m args below meth c Qf D A ρs hc h0 nL pc L (vI y :: vI x :: S) h := by
  refine zg_i (i32_rng _) sub2 (fun H locs cells slots ls ρ hv kk => ?_) k
  show W p l e R s m args below meth c H locs cells slots Qf (F0 m pc ls (.int (Int32.ofInt y) :: .int (Int32.ofInt x) :: S.map (cv ρ)))
  unfold zshr at kk
  rw [Int32.ofInt_toInt] at kk
  exact lv_ishr hx hb d kk
theorem zs_iushr (hx : p.tables.exec = Jvm.exec) (hb : c.code = cc) (d : decode cc pc = .ok (.iushr, 1)) (k : ZGo p l e R s m args below meth c Qf D A ρs hc h0 nL (pc + 1) L (vI (zushr x y) :: S) h) : ZGo p l e R s m args below meth c Qf D A ρs hc h0 nL pc L (vI y :: vI x :: S) h := by
  refine zg_i (i32_rng _) sub2 (fun H locs cells slots ls ρ hv kk => ?_) k
  show W p l e R s m args below meth c H locs cells slots Qf (F0 m pc ls (.int (Int32.ofInt y) :: .int (Int32.ofInt x) :: S.map (cv ρ)))
  unfold zushr at kk
  rw [Int32.ofInt_toInt] at kk
  exact lv_iushr hx hb d rfl kk
theorem zs_idiv (hx : p.tables.exec = Jvm.exec) (hb : c.code = cc) (d : decode cc pc = .ok (.idiv, 1)) (h0y : ¬ y = 0) (k : ZGo p l e R s m args below meth c Qf D A ρs hc h0 nL (pc + 1) L (vI (wr (x.tdiv y)) :: S) h) : ZGo p l e R s m args below meth c Qf D A ρs hc h0 nL pc L (vI y :: vI x :: S) h := by
  intro ρ κ H locs ls g1 g2 g3 g4
  have hy : -2147483648 ≤ y ∧ y ≤ 2147483647 := (hd1 g4).1
  have hx1 : -2147483648 ≤ x ∧ x ≤ 2147483647 := (hd1 (tl1 g4)).1
  have hr : -2147483648 ≤ wr (x.tdiv y) ∧ wr (x.tdiv y) ≤ 2147483647 := by
    first | exact wr_rng _ | (have e := cI_div hx1 hy; have := tmod_rng hx1 hy h0y; exact this)
  have kk := k ρ κ H locs ls g1 g2 g3 (all1 (vok_i hr) (tl1 (tl1 g4)))
  show W p l e R s m args below meth c H locs _ _ Qf (F0 m pc ls (.int (Int32.ofInt y) :: .int (Int32.ofInt x) :: S.map (cv ρ)))
  have kk : W p l e R s m args below meth c H locs _ _ Qf (F0 m (pc + 1) ls (.int (Int32.ofInt (wr (x.tdiv y))) :: S.map (cv ρ))) := kk
  rw [cI_div hx1 hy] at kk
  exact lv_idiv hx hb d (fun z => h0y ((c32_eq hy (by omega)).mp (z.trans rfl))) kk
theorem zs_irem (hx : p.tables.exec = Jvm.exec) (hb : c.code = cc) (d : decode cc pc = .ok (.irem, 1)) (h0y : ¬ y = 0) (k : ZGo p l e R s m args below meth c Qf D A ρs hc h0 nL (pc + 1) L (vI (x.tmod y) :: S) h) : ZGo p l e R s m args below meth c Qf D A ρs hc h0 nL pc L (vI y :: vI x :: S) h := by
  intro ρ κ H locs ls g1 g2 g3 g4
  have hy : -2147483648 ≤ y ∧ y ≤ 2147483647 := (hd1 g4).1
  have hx1 : -2147483648 ≤ x ∧ x ≤ 2147483647 := (hd1 (tl1 g4)).1
  have hr : -2147483648 ≤ x.tmod y ∧ x.tmod y ≤ 2147483647 := by
    first | exact wr_rng _ | (have e := cI_rem hx1 hy; have := tmod_rng hx1 hy h0y; exact this)
  have kk := k ρ κ H locs ls g1 g2 g3 (all1 (vok_i hr) (tl1 (tl1 g4)))
  show W p l e R s m args below meth c H locs _ _ Qf (F0 m pc ls (.int (Int32.ofInt y) :: .int (Int32.ofInt x) :: S.map (cv ρ)))
  have kk : W p l e R s m args below meth c H locs _ _ Qf (F0 m (pc + 1) ls (.int (Int32.ofInt (x.tmod y)) :: S.map (cv ρ))) := kk
  rw [cI_rem hx1 hy] at kk
  exact lv_irem hx hb d (fun z => h0y ((c32_eq hy (by omega)).mp (z.trans rfl))) kk
theorem zs_ineg (hx : p.tables.exec = Jvm.exec) (hb : c.code = cc) (d : decode cc pc = .ok (.ineg, 1)) (k : ZGo p l e R s m args below meth c Qf D A ρs hc h0 nL (pc + 1) L (vI (wr (-x)) :: S) h) : ZGo p l e R s m args below meth c Qf D A ρs hc h0 nL pc L (vI x :: S) h := by
  refine zg_i (wr_rng _) sub1 (fun H locs cells slots ls ρ hv kk => ?_) k
  show W p l e R s m args below meth c H locs cells slots Qf (F0 m pc ls (.int (Int32.ofInt x) :: S.map (cv ρ)))
  rw [cI_neg] at kk
  exact lv_ineg hx hb d kk
theorem zs_i2b (hx : p.tables.exec = Jvm.exec) (hb : c.code = cc) (d : decode cc pc = .ok (.i2b, 1)) (k : ZGo p l e R s m args below meth c Qf D A ρs hc h0 nL (pc + 1) L (vI (wb x) :: S) h) : ZGo p l e R s m args below meth c Qf D A ρs hc h0 nL pc L (vI x :: S) h := by
  refine zg_i (by have := wb_rng x; omega) sub1 (fun H locs cells slots ls ρ hv kk => ?_) k
  show W p l e R s m args below meth c H locs cells slots Qf (F0 m pc ls (.int (Int32.ofInt x) :: S.map (cv ρ)))
  rw [cI_b] at kk
  exact lv_i2b hx hb d rfl kk
theorem zs_i2c (hx : p.tables.exec = Jvm.exec) (hb : c.code = cc) (d : decode cc pc = .ok (.i2c, 1)) (k : ZGo p l e R s m args below meth c Qf D A ρs hc h0 nL (pc + 1) L (vI (wc x) :: S) h) : ZGo p l e R s m args below meth c Qf D A ρs hc h0 nL pc L (vI x :: S) h := by
  refine zg_i (by have := wc_rng x; omega) sub1 (fun H locs cells slots ls ρ hv kk => ?_) k
  show W p l e R s m args below meth c H locs cells slots Qf (F0 m pc ls (.int (Int32.ofInt x) :: S.map (cv ρ)))
  rw [cI_c] at kk
  exact lv_i2c hx hb d rfl kk
theorem zs_l2i (hx : p.tables.exec = Jvm.exec) (hb : c.code = cc) (d : decode cc pc = .ok (.l2i, 1)) (k : ZGo p l e R s m args below meth c Qf D A ρs hc h0 nL (pc + 1) L (vI (wr x) :: S) h) : ZGo p l e R s m args below meth c Qf D A ρs hc h0 nL pc L (vL x :: S) h := by
  refine zg_i (wr_rng _) sub1 (fun H locs cells slots ls ρ hv kk => ?_) k
  show W p l e R s m args below meth c H locs cells slots Qf (F0 m pc ls (.long (Int64.ofInt x) :: S.map (cv ρ)))
  rw [cI_l] at kk
  exact lv_l2i hx hb d rfl kk
theorem zs_i2l (hx : p.tables.exec = Jvm.exec) (hb : c.code = cc) (d : decode cc pc = .ok (.i2l, 1)) (k : ZGo p l e R s m args below meth c Qf D A ρs hc h0 nL (pc + 1) L (vL x :: S) h) : ZGo p l e R s m args below meth c Qf D A ρs hc h0 nL pc L (vI x :: S) h := by
  intro ρ κ H locs ls g1 g2 g3 g4
  have hx1 : -2147483648 ≤ x ∧ x ≤ 2147483647 := (hd1 g4).1
  have kk := k ρ κ H locs ls g1 g2 g3 (all1 (vok_l (by omega)) (tl1 g4))
  have kk : W p l e R s m args below meth c H locs _ _ Qf (F0 m (pc + 1) ls (.long (Int64.ofInt x) :: S.map (cv ρ))) := kk
  rw [cL_i x hx1] at kk
  exact lv_i2l hx hb d rfl kk
theorem zs_ladd (hx : p.tables.exec = Jvm.exec) (hb : c.code = cc) (d : decode cc pc = .ok (.ladd, 1)) (k : ZGo p l e R s m args below meth c Qf D A ρs hc h0 nL (pc + 1) L (vL (wl (x + y)) :: S) h) : ZGo p l e R s m args below meth c Qf D A ρs hc h0 nL pc L (vL y :: vL x :: S) h := by
  refine zg_l (wl_rng _) sub2 (fun H locs cells slots ls ρ hv kk => ?_) k
  show W p l e R s m args below meth c H locs cells slots Qf (F0 m pc ls (.long (Int64.ofInt y) :: .long (Int64.ofInt x) :: S.map (cv ρ)))
  rw [cL_add] at kk
  exact lv_ladd hx hb d kk
theorem zs_lsub (hx : p.tables.exec = Jvm.exec) (hb : c.code = cc) (d : decode cc pc = .ok (.lsub, 1)) (k : ZGo p l e R s m args below meth c Qf D A ρs hc h0 nL (pc + 1) L (vL (wl (x - y)) :: S) h) : ZGo p l e R s m args below meth c Qf D A ρs hc h0 nL pc L (vL y :: vL x :: S) h := by
  refine zg_l (wl_rng _) sub2 (fun H locs cells slots ls ρ hv kk => ?_) k
  show W p l e R s m args below meth c H locs cells slots Qf (F0 m pc ls (.long (Int64.ofInt y) :: .long (Int64.ofInt x) :: S.map (cv ρ)))
  rw [cL_sub] at kk
  exact lv_lsub hx hb d kk
theorem zs_lmul (hx : p.tables.exec = Jvm.exec) (hb : c.code = cc) (d : decode cc pc = .ok (.lmul, 1)) (k : ZGo p l e R s m args below meth c Qf D A ρs hc h0 nL (pc + 1) L (vL (wl (x * y)) :: S) h) : ZGo p l e R s m args below meth c Qf D A ρs hc h0 nL pc L (vL y :: vL x :: S) h := by
  refine zg_l (wl_rng _) sub2 (fun H locs cells slots ls ρ hv kk => ?_) k
  show W p l e R s m args below meth c H locs cells slots Qf (F0 m pc ls (.long (Int64.ofInt y) :: .long (Int64.ofInt x) :: S.map (cv ρ)))
  rw [cL_mul] at kk
  exact lv_lmul hx hb d kk
theorem zs_land (hx : p.tables.exec = Jvm.exec) (hb : c.code = cc) (d : decode cc pc = .ok (.land, 1)) (k : ZGo p l e R s m args below meth c Qf D A ρs hc h0 nL (pc + 1) L (vL (zland x y) :: S) h) : ZGo p l e R s m args below meth c Qf D A ρs hc h0 nL pc L (vL y :: vL x :: S) h := by
  refine zg_l (i64_rng _) sub2 (fun H locs cells slots ls ρ hv kk => ?_) k
  show W p l e R s m args below meth c H locs cells slots Qf (F0 m pc ls (.long (Int64.ofInt y) :: .long (Int64.ofInt x) :: S.map (cv ρ)))
  unfold zland at kk
  rw [Int64.ofInt_toInt] at kk
  exact lv_land hx hb d kk
theorem zs_lor (hx : p.tables.exec = Jvm.exec) (hb : c.code = cc) (d : decode cc pc = .ok (.lor, 1)) (k : ZGo p l e R s m args below meth c Qf D A ρs hc h0 nL (pc + 1) L (vL (zlor x y) :: S) h) : ZGo p l e R s m args below meth c Qf D A ρs hc h0 nL pc L (vL y :: vL x :: S) h := by
  refine zg_l (i64_rng _) sub2 (fun H locs cells slots ls ρ hv kk => ?_) k
  show W p l e R s m args below meth c H locs cells slots Qf (F0 m pc ls (.long (Int64.ofInt y) :: .long (Int64.ofInt x) :: S.map (cv ρ)))
  unfold zlor at kk
  rw [Int64.ofInt_toInt] at kk
  exact lv_lor hx hb d kk
theorem zs_lxor (hx : p.tables.exec = Jvm.exec) (hb : c.code = cc) (d : decode cc pc = .ok (.lxor, 1)) (k : ZGo p l e R s m args below meth c Qf D A ρs hc h0 nL (pc + 1) L (vL (zlxor x y) :: S) h) : ZGo p l e R s m args below meth c Qf D A ρs hc h0 nL pc L (vL y :: vL x :: S) h := by
  refine zg_l (i64_rng _) sub2 (fun H locs cells slots ls ρ hv kk => ?_) k
  show W p l e R s m args below meth c H locs cells slots Qf (F0 m pc ls (.long (Int64.ofInt y) :: .long (Int64.ofInt x) :: S.map (cv ρ)))
  unfold zlxor at kk
  rw [Int64.ofInt_toInt] at kk
  exact lv_lxor hx hb d kk
theorem zs_lshl (hx : p.tables.exec = Jvm.exec) (hb : c.code = cc) (d : decode cc pc = .ok (.lshl, 1)) (k : ZGo p l e R s m args below meth c Qf D A ρs hc h0 nL (pc + 1) L (vL (zlshl x y) :: S) h) : ZGo p l e R s m args below meth c Qf D A ρs hc h0 nL pc L (vI y :: vL x :: S) h := by
  refine zg_l (i64_rng _) sub2 (fun H locs cells slots ls ρ hv kk => ?_) k
  show W p l e R s m args below meth c H locs cells slots Qf (F0 m pc ls (.int (Int32.ofInt y) :: .long (Int64.ofInt x) :: S.map (cv ρ)))
  unfold zlshl at kk
  rw [Int64.ofInt_toInt] at kk
  exact lv_lshl hx hb d rfl kk
theorem zs_lushr (hx : p.tables.exec = Jvm.exec) (hb : c.code = cc) (d : decode cc pc = .ok (.lushr, 1)) (k : ZGo p l e R s m args below meth c Qf D A ρs hc h0 nL (pc + 1) L (vL (zlushr x y) :: S) h) : ZGo p l e R s m args below meth c Qf D A ρs hc h0 nL pc L (vI y :: vL x :: S) h := by
  refine zg_l (i64_rng _) sub2 (fun H locs cells slots ls ρ hv kk => ?_) k
  show W p l e R s m args below meth c H locs cells slots Qf (F0 m pc ls (.int (Int32.ofInt y) :: .long (Int64.ofInt x) :: S.map (cv ρ)))
  unfold zlushr at kk
  rw [Int64.ofInt_toInt] at kk
  exact lv_lushr hx hb d rfl kk
theorem zs_lcmp (hx : p.tables.exec = Jvm.exec) (hb : c.code = cc) (d : decode cc pc = .ok (.lcmp, 1)) (k : ZGo p l e R s m args below meth c Qf D A ρs hc h0 nL (pc + 1) L (vI (if x < y then -1 else if x = y then 0 else 1) :: S) h) : ZGo p l e R s m args below meth c Qf D A ρs hc h0 nL pc L (vL y :: vL x :: S) h := by
  intro ρ κ H locs ls g1 g2 g3 g4
  have hy : -9223372036854775808 ≤ y ∧ y ≤ 9223372036854775807 := (hd1 g4).1
  have hx1 : -9223372036854775808 ≤ x ∧ x ≤ 9223372036854775807 := (hd1 (tl1 g4)).1
  have kk := k ρ κ H locs ls g1 g2 g3 (all1 (vok_i (by split <;> (try split) <;> omega)) (tl1 (tl1 g4)))
  have kk : W p l e R s m args below meth c H locs _ _ Qf (F0 m (pc + 1) ls (.int (Int32.ofInt (if x < y then -1 else if x = y then 0 else 1)) :: S.map (cv ρ))) := kk
  rw [cI_cmp hx1 hy] at kk
  exact W.lcmp hx hb d kk
theorem zs_iconst (hx : p.tables.exec = Jvm.exec) (hb : c.code = cc) (d : decode cc pc = .ok (.iconst x, 1)) (hr : -2147483648 ≤ x ∧ x ≤ 2147483647) (k : ZGo p l e R s m args below meth c Qf D A ρs hc h0 nL (pc + 1) L (vI x :: S) h) : ZGo p l e R s m args below meth c Qf D A ρs hc h0 nL pc L S h := zg_i hr (fun _ z => z) (fun H locs cells slots ls ρ hv kk => lv_iconst hx hb d rfl kk) k
theorem zs_bipush (hx : p.tables.exec = Jvm.exec) (hb : c.code = cc) (d : decode cc pc = .ok (.bipush x, 2)) (hr : -2147483648 ≤ x ∧ x ≤ 2147483647) (hq : (Int8.ofInt x).toInt32 = Int32.ofInt x) (k : ZGo p l e R s m args below meth c Qf D A ρs hc h0 nL (pc + 2) L (vI x :: S) h) : ZGo p l e R s m args below meth c Qf D A ρs hc h0 nL pc L S h := zg_i hr (fun _ z => z) (fun H locs cells slots ls ρ hv kk => lv_bipush hx hb d hq kk) k
theorem zs_sipush (hx : p.tables.exec = Jvm.exec) (hb : c.code = cc) (d : decode cc pc = .ok (.sipush x, 3)) (hr : -2147483648 ≤ x ∧ x ≤ 2147483647) (hq : (Int16.ofInt x).toInt32 = Int32.ofInt x) (k : ZGo p l e R s m args below meth c Qf D A ρs hc h0 nL (pc + 3) L (vI x :: S) h) : ZGo p l e R s m args below meth c Qf D A ρs hc h0 nL pc L S h := zg_i hr (fun _ z => z) (fun H locs cells slots ls ρ hv kk => lv_sipush hx hb d hq kk) k
theorem zs_ldcI (hx : p.tables.exec = Jvm.exec) (hb : c.code = cc) {own : String} {i : Nat} (hown : s.vm.findClass own = some m.cls) (hcon : (Cond.constant own i (Int32.ofInt x)).before args s = true) (d : decode cc pc = .ok (.ldc i, 2)) (hr : -2147483648 ≤ x ∧ x ≤ 2147483647) (k : ZGo p l e R s m args below meth c Qf D A ρs hc h0 nL (pc + 2) L (vI x :: S) h) : ZGo p l e R s m args below meth c Qf D A ρs hc h0 nL pc L S h := zg_i hr (fun _ z => z) (fun H locs cells slots ls ρ hv kk => lv_ldc hx hb hown hcon d kk) k
theorem zs_ldcwI (hx : p.tables.exec = Jvm.exec) (hb : c.code = cc) {own : String} {i : Nat} (hown : s.vm.findClass own = some m.cls) (hcon : (Cond.constant own i (Int32.ofInt x)).before args s = true) (d : decode cc pc = .ok (.ldc_w i, 3)) (hr : -2147483648 ≤ x ∧ x ≤ 2147483647) (k : ZGo p l e R s m args below meth c Qf D A ρs hc h0 nL (pc + 3) L (vI x :: S) h) : ZGo p l e R s m args below meth c Qf D A ρs hc h0 nL pc L S h := zg_i hr (fun _ z => z) (fun H locs cells slots ls ρ hv kk => lv_ldcw hx hb hown hcon d kk) k
theorem zs_ldc2 (hx : p.tables.exec = Jvm.exec) (hb : c.code = cc) {own : String} {i : Nat} (hown : s.vm.findClass own = some m.cls) (hcon : (Cond.constantLong own i (Int64.ofInt x)).before args s = true) (d : decode cc pc = .ok (.ldc2_w i, 3)) (hr : -9223372036854775808 ≤ x ∧ x ≤ 9223372036854775807) (k : ZGo p l e R s m args below meth c Qf D A ρs hc h0 nL (pc + 3) L (vL x :: S) h) : ZGo p l e R s m args below meth c Qf D A ρs hc h0 nL pc L S h := zg_l hr (fun _ z => z) (fun H locs cells slots ls ρ hv kk => lv_ldc2 hx hb hown hcon d kk) k
theorem zs_lconst (hx : p.tables.exec = Jvm.exec) (hb : c.code = cc) {n : Fin 2} (d : decode cc pc = .ok (.lconst n, 1)) (k : ZGo p l e R s m args below meth c Qf D A ρs hc h0 nL (pc + 1) L (vL ((n : Nat) : Int) :: S) h) : ZGo p l e R s m args below meth c Qf D A ρs hc h0 nL pc L S h := zg_l (by have := n.isLt; omega) (fun _ z => z) (fun H locs cells slots ls ρ hv kk => lv_lconst hx hb d (by rw [← Int64.ofInt_eq_ofNat]) kk) k
end
