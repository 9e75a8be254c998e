/-! Going on: new arrays, made exceptions, Object's constructor, copies. -/
def zAB (U : State) : Prop := (Cond.arrayOver (.array .byte)).before #[] U = true
theorem zAB.moved {u U : State} (hvm : u.vm.Alike U.vm) (h : zAB u) : zAB U := by
  obtain ⟨comp, c, k, h1, h2, h3, h4, h5⟩ := arrayOverA_spec h
  obtain ⟨k', hk', he⟩ := hvm.2.2 _ _ h3
  have hi : (U.vm.classes.findIdx? fun (x : Class) => match x.kind with | .array component _ => component == comp | _ => false) = some c := by
    refine Eq.trans (va_idx_bare U.vm comp).symm ?_
    have hbb : U.vm.bare = u.vm.bare := by first | exact hvm.bare_eq | exact hvm.bare_eq.symm
    rw [hbb]
    exact (va_idx_bare u.vm comp).trans h2
  have hkind : k'.kind = .array comp (.array .byte) := by rw [he]; exact h4
  have f1 : U.vm.findClass (FieldType.array .byte).toString = some comp := by rw [hvm.findClass]; exact h1
  have f2 : U.vm.findClass ("[" ++ (FieldType.array .byte).toString) = some c := by rw [hvm.findClass]; exact h5
  unfold zAB Cond.before Cond.holds
  simp only [Cond.value]
  rw [f1, Option.bind_some]
  refine (congrArg (fun o : Option Nat => (o.bind (fun c => (U.vm.classes[c]?).map fun (k : Class) => match k.kind with | .array _ ty => decide (ty = FieldType.array .byte) && decide (U.vm.findClass ("[" ++ (FieldType.array .byte).toString) = some c) | _ => false) == some true)) hi).trans ?_
  simp [hk', hkind, f2]
section
variable {p : Program} {l : Launch} {e : Env} {R : Room} {s : State} {m : MethodId} {args : Array Value} {below : List Frame} {meth : Method} {c : Code} {Qf : State → Prop} {D : va_G} {A : Nat → Prop} {ρs : Nat → Value} {hc h0 : MH} {nL pc nx : Nat} {L S : List V} {h : MH} {cc : ByteArray} {x y : Int} {r q : Option Nat} {a b : Nat}
theorem zw_sum {ρ : Nat → Value} {n : Nat} (hρ : ∀ a, a < n → ρ a = .null ∨ ∃ q, ρ a = .ref q) (hS : ∀ v ∈ S, vok n v ∧ v ≠ vJ) : ((S.map (cv ρ)).map fun v => v.category).sum = zw S := by
  induction S with
  | nil => rfl
  | cons v S ih =>
    have h1 := hd1 hS
    rw [List.map_cons, List.map_cons, List.sum_cons, ih (tl1 hS)]
    rcases v with z | z | z | z
    · show 1 + zw S = zw S + 1; omega
    · show 2 + zw S = zw S + 2; omega
    · rw [cat1 hρ h1.1 (fun x z => by cases z)]
      show 1 + zw S = zw S + 1; omega
    · exact absurd rfl h1.2
theorem zbytes {n : Nat} {t : FieldType} (h : n ≤ 1000000) (h8 : componentBytes t ≤ 8) : n * componentBytes t ≤ 536870912 := Nat.le_trans (Nat.mul_le_mul_left _ h8) (by omega)
/-- a new array of numbers -/
theorem zs_newa0 {κ : Nat → ClassId} {ρ : Nat → Value} {H H1 : Heap} {locs locs1 : List Loc} {ls : Array Slot} {t : Nat} {dv : V} {cA : ClassId} {qa pc' : Nat} (g1 : zSt D A ρs hc h0 s ρ κ h H locs) (g2 : zLoc ρ nL L ls) (g3 : ∀ v ∈ L, vok (hn h) v) (g4 : ∀ v ∈ S, vok (hn h) v ∧ v ≠ vJ) (ht : 1 ≤ t ∧ t ≤ 7) (hx1 : x ≤ 1000000) (hx0 : 0 ≤ x) (hdv : ∀ n, vok n dv ∧ zelok t dv) (hcA : ArrOfT s cA (zaty t) ∧ zRA s cA t)
    (hP : va_P D zcl (zWl ρ κ h ++ [(qa, .inl (cA, x.toNat, zarr (zup ρ (hn h) (.ref qa)) t x.toNat (fun _ => dv)))]) H1) (hD : va_D A (zWl ρ κ h ++ [(qa, .inl (cA, x.toNat, zarr (zup ρ (hn h) (.ref qa)) t x.toNat (fun _ => dv)))])) (hS : va_S A s.heap H1 locs1)
    (k : ZGo p l e R s m args below meth c Qf D A ρs hc h0 nL pc' L (vA (some (hn h)) :: S) (hnew h (t, x.toNat) x.toNat (fun _ => dv))) : W p l e R s m args below meth c H1 locs1 (hn h - hn h0 + 1) (hs h - hs h0 + x.toNat) Qf (F0 m pc' ls (.ref qa :: S.map (cv ρ))) := by
  have ek : hk (hnew h (t, x.toNat) x.toNat (fun _ => dv)) (hn h) = (t, x.toNat) := by rw [hk_new, if_pos rfl]
  have em : hm (hnew h (t, x.toNat) x.toNat (fun _ => dv)) (hn h) = (fun _ => dv) := by funext j; rw [hm_new, if_pos rfl]
  have hee : zE (zup ρ (hn h) (.ref qa)) (zup κ (hn h) cA) (hnew h (t, x.toNat) x.toNat (fun _ => dv)) (hn h) = .inl (cA, x.toNat, zarr (zup ρ (hn h) (.ref qa)) t x.toNat (fun _ => dv)) := by
    rw [zE_arr (by rw [ek]; show ¬ 100 ≤ t; omega), ek, em, zup_s]
  rw [← hee] at hP hD
  have hr := g1.2.1.new (U := s) (Or.inr ⟨ht.1, ht.2, by show x.toNat ≤ 1000000; omega, fun j hj => hdv _⟩) (fun _ => hcA) hP hD
  have kk := k _ _ H1 locs1 ls (zSt_new g1 hr hS) (zLoc_ext g2 (fun b hb => zup_n _ _ (by omega)) g3) (fun v hv => vok_mono (Nat.le_succ _) (g3 v hv)) (all1 (vok_a (fun b z => by cases z; rw [hn_new]; omega)) (fun w hw => ⟨vok_mono (Nat.le_succ _) (g4 w hw).1, (g4 w hw).2⟩))
  rw [hn_new, hs_new] at kk
  have e1 : hn h + 1 - hn h0 = hn h - hn h0 + 1 := by have := g1.2.2.2.2.1.1; omega
  have e2 : hs h + x.toNat - hs h0 = hs h - hs h0 + x.toNat := by have := g1.2.2.2.2.1.2; omega
  rw [e1, e2] at kk
  have kk : W p l e R s m args below meth c H1 locs1 (hn h - hn h0 + 1) (hs h - hs h0 + x.toNat) Qf (F0 m pc' ls (zup ρ (hn h) (.ref qa) (hn h) :: S.map (cv (zup ρ (hn h) (.ref qa))))) := kk
  rw [zup_s, zmap_ext (fun w hw => (g4 w hw).1)] at kk
  exact kk
theorem zs_newarray_int (hx : p.tables.exec = Jvm.exec) (hb : c.code = cc) (harr : (Cond.arrayClass .int).before args s = true) (hK : va_K D zcl [] s) (hA : ∀ q, s.heap.size ≤ q → A q) (hx0 : 0 ≤ x) (hx1 : x ≤ 1000000) (hR1 : hn h - hn h0 + 1 ≤ R.cells) (hR2 : hs h - hs h0 + x.toNat ≤ R.slots) (d : decode cc pc = .ok (.newarray .int, 2)) (k : ZGo p l e R s m args below meth c Qf D A ρs hc h0 nL (pc + 2) L (vA (some (hn h)) :: S) (hnew h (1, x.toNat) x.toNat (fun _ => vI 0))) : ZGo p l e R s m args below meth c Qf D A ρs hc h0 nL pc L (vI x :: S) h := by
  intro ρ κ H locs ls g1 g2 g3 g4
  have i2 : (Int32.ofInt x).toNatClampNeg = x.toNat := by
    show (Int32.ofInt x).toInt.toNat = _
    rw [o32 (by omega)]
  refine va_newa (atype := .int) (ty := .int) (a0 := (x.toNat, .inl (fun k => if k < x.toNat then vi32 (vI 0) else 0))) hx hb harr rfl hK g1.2.1.1 g1.2.1.2.1 g1.2.2.1 hA (fun cA => ?_) (fun z => ?_) i2 (zbytes (t := .int) (by omega) (by decide)) hR1 hR2 d (fun qa cA H1 hK1 hP hD hS => ?_)
  · rw [vp_cell_i]
    congr 1
    funext k
    split <;> rfl
  · rw [show (0 : Int32) = Int32.ofInt 0 from rfl, c32_lt (by omega) (by omega)] at z
    omega
  · have hk1 := hK1.2 0 (cA, .int) rfl
    have hzr : zarr (zup ρ (hn h) (.ref qa)) 1 x.toNat (fun _ => vI 0) = .inl (fun k => if k < x.toNat then vi32 (vI 0) else 0) := rfl
    rw [← hzr] at hP hD
    exact zs_newa0 (t := 1) (dv := vI 0) g1 g2 g3 (tl1 g4) (by omega) hx1 hx0 (fun n => ⟨⟨by decide, by decide⟩, ⟨0, rfl⟩⟩) ⟨hk1.1, hk1.2⟩ hP hD hS k
theorem zs_newarray_byte (hx : p.tables.exec = Jvm.exec) (hb : c.code = cc) (harr : (Cond.arrayClass .byte).before args s = true) (hK : va_K D zcl [] s) (hA : ∀ q, s.heap.size ≤ q → A q) (hx0 : 0 ≤ x) (hx1 : x ≤ 1000000) (hR1 : hn h - hn h0 + 1 ≤ R.cells) (hR2 : hs h - hs h0 + x.toNat ≤ R.slots) (d : decode cc pc = .ok (.newarray .byte, 2)) (k : ZGo p l e R s m args below meth c Qf D A ρs hc h0 nL (pc + 2) L (vA (some (hn h)) :: S) (hnew h (2, x.toNat) x.toNat (fun _ => vI 0))) : ZGo p l e R s m args below meth c Qf D A ρs hc h0 nL pc L (vI x :: S) h := by
  intro ρ κ H locs ls g1 g2 g3 g4
  have i2 : (Int32.ofInt x).toNatClampNeg = x.toNat := by
    show (Int32.ofInt x).toInt.toNat = _
    rw [o32 (by omega)]
  refine va_newa (atype := .byte) (ty := .byte) (a0 := (x.toNat, .inl (fun k => if k < x.toNat then vi32 (vI 0) else 0))) hx hb harr rfl hK g1.2.1.1 g1.2.1.2.1 g1.2.2.1 hA (fun cA => ?_) (fun z => ?_) i2 (zbytes (t := .byte) (by omega) (by decide)) hR1 hR2 d (fun qa cA H1 hK1 hP hD hS => ?_)
  · rw [vp_cell_i]
    congr 1
    funext k
    split <;> rfl
  · rw [show (0 : Int32) = Int32.ofInt 0 from rfl, c32_lt (by omega) (by omega)] at z
    omega
  · have hk1 := hK1.2 0 (cA, .byte) rfl
    have hzr : zarr (zup ρ (hn h) (.ref qa)) 2 x.toNat (fun _ => vI 0) = .inl (fun k => if k < x.toNat then vi32 (vI 0) else 0) := rfl
    rw [← hzr] at hP hD
    exact zs_newa0 (t := 2) (dv := vI 0) g1 g2 g3 (tl1 g4) (by omega) hx1 hx0 (fun n => ⟨⟨by decide, by decide⟩, ⟨0, rfl, by decide, by decide⟩⟩) ⟨hk1.1, hk1.2⟩ hP hD hS k
theorem zs_newarray_boolean (hx : p.tables.exec = Jvm.exec) (hb : c.code = cc) (harr : (Cond.arrayClass .boolean).before args s = true) (hK : va_K D zcl [] s) (hA : ∀ q, s.heap.size ≤ q → A q) (hx0 : 0 ≤ x) (hx1 : x ≤ 1000000) (hR1 : hn h - hn h0 + 1 ≤ R.cells) (hR2 : hs h - hs h0 + x.toNat ≤ R.slots) (d : decode cc pc = .ok (.newarray .boolean, 2)) (k : ZGo p l e R s m args below meth c Qf D A ρs hc h0 nL (pc + 2) L (vA (some (hn h)) :: S) (hnew h (3, x.toNat) x.toNat (fun _ => vI 0))) : ZGo p l e R s m args below meth c Qf D A ρs hc h0 nL pc L (vI x :: S) h := by
  intro ρ κ H locs ls g1 g2 g3 g4
  have i2 : (Int32.ofInt x).toNatClampNeg = x.toNat := by
    show (Int32.ofInt x).toInt.toNat = _
    rw [o32 (by omega)]
  refine va_newa (atype := .boolean) (ty := .boolean) (a0 := (x.toNat, .inl (fun k => if k < x.toNat then vi32 (vI 0) else 0))) hx hb harr rfl hK g1.2.1.1 g1.2.1.2.1 g1.2.2.1 hA (fun cA => ?_) (fun z => ?_) i2 (zbytes (t := .boolean) (by omega) (by decide)) hR1 hR2 d (fun qa cA H1 hK1 hP hD hS => ?_)
  · rw [vp_cell_i]
    congr 1
    funext k
    split <;> rfl
  · rw [show (0 : Int32) = Int32.ofInt 0 from rfl, c32_lt (by omega) (by omega)] at z
    omega
  · have hk1 := hK1.2 0 (cA, .boolean) rfl
    have hzr : zarr (zup ρ (hn h) (.ref qa)) 3 x.toNat (fun _ => vI 0) = .inl (fun k => if k < x.toNat then vi32 (vI 0) else 0) := rfl
    rw [← hzr] at hP hD
    exact zs_newa0 (t := 3) (dv := vI 0) g1 g2 g3 (tl1 g4) (by omega) hx1 hx0 (fun n => ⟨⟨by decide, by decide⟩, ⟨0, rfl, Or.inl rfl⟩⟩) ⟨hk1.1, hk1.2⟩ hP hD hS k
theorem zs_newarray_long (hx : p.tables.exec = Jvm.exec) (hb : c.code = cc) (harr : (Cond.arrayClass .long).before args s = true) (hK : va_K D zcl [] s) (hA : ∀ q, s.heap.size ≤ q → A q) (hx0 : 0 ≤ x) (hx1 : x ≤ 1000000) (hR1 : hn h - hn h0 + 1 ≤ R.cells) (hR2 : hs h - hs h0 + x.toNat ≤ R.slots) (d : decode cc pc = .ok (.newarray .long, 2)) (k : ZGo p l e R s m args below meth c Qf D A ρs hc h0 nL (pc + 2) L (vA (some (hn h)) :: S) (hnew h (4, x.toNat) x.toNat (fun _ => vL 0))) : ZGo p l e R s m args below meth c Qf D A ρs hc h0 nL pc L (vI x :: S) h := by
  intro ρ κ H locs ls g1 g2 g3 g4
  have i2 : (Int32.ofInt x).toNatClampNeg = x.toNat := by
    show (Int32.ofInt x).toInt.toNat = _
    rw [o32 (by omega)]
  refine va_newa (atype := .long) (ty := .long) (a0 := (x.toNat, .inr (.inl (fun k => if k < x.toNat then vi64 (vL 0) else 0)))) hx hb harr rfl hK g1.2.1.1 g1.2.1.2.1 g1.2.2.1 hA (fun cA => ?_) (fun z => ?_) i2 (zbytes (t := .long) (by omega) (by decide)) hR1 hR2 d (fun qa cA H1 hK1 hP hD hS => ?_)
  · rw [vp_cell_l]
    congr 1
    funext k
    split <;> rfl
  · rw [show (0 : Int32) = Int32.ofInt 0 from rfl, c32_lt (by omega) (by omega)] at z
    omega
  · have hk1 := hK1.2 0 (cA, .long) rfl
    have hzr : zarr (zup ρ (hn h) (.ref qa)) 4 x.toNat (fun _ => vL 0) = .inr (.inl (fun k => if k < x.toNat then vi64 (vL 0) else 0)) := rfl
    rw [← hzr] at hP hD
    exact zs_newa0 (t := 4) (dv := vL 0) g1 g2 g3 (tl1 g4) (by omega) hx1 hx0 (fun n => ⟨⟨by decide, by decide⟩, ⟨0, rfl⟩⟩) ⟨hk1.1, hk1.2⟩ hP hD hS k
theorem zs_anew5 (hx : p.tables.exec = Jvm.exec) (hb : c.code = cc) {own : String} {i : Nat} (hown : s.vm.findClass own = some m.cls) (hlink : (Cond.classLink own i "java/lang/Object").before args s = true) (hover : va_AO "java/lang/Object" s) (hK : va_K D zcl [] s) (hA : ∀ q, s.heap.size ≤ q → A q) (hx0 : 0 ≤ x) (hx1 : x ≤ 1000000) (hR1 : hn h - hn h0 + 1 ≤ R.cells) (hR2 : hs h - hs h0 + x.toNat ≤ R.slots) (d : decode cc pc = .ok (.anewarray i, 3)) (k : ZGo p l e R s m args below meth c Qf D A ρs hc h0 nL (pc + 3) L (vA (some (hn h)) :: S) (hnew h (5, x.toNat) x.toNat (fun _ => vA none))) : ZGo p l e R s m args below meth c Qf D A ρs hc h0 nL pc L (vI x :: S) h := by
  intro ρ κ H locs ls g1 g2 g3 g4
  have i2 : (Int32.ofInt x).toNatClampNeg = x.toNat := by
    show (Int32.ofInt x).toInt.toNat = _
    rw [o32 (by omega)]
  refine va_newq hx hb hown hlink hover hK g1.2.1.1 g1.2.1.2.1 g1.2.2.1 hA (fun z => ?_) i2 (by omega) hR1 hR2 d (fun qa cA H1 hK1 hP hD hS => ?_)
  · rw [show (0 : Int32) = Int32.ofInt 0 from rfl, c32_lt (by omega) (by omega)] at z
    omega
  · have hk1 := hK1.2 0 (cA, .object "java/lang/Object") rfl
    have hzr : zarr (zup ρ (hn h) (.ref qa)) 5 x.toNat (fun _ => vA none) = .inr (.inr (.inr (.inr (fun _ => none)))) := by
      unfold zarr
      rw [if_neg (by omega), if_neg (by omega)]
      congr 4
      funext k
      split <;> rfl
    rw [← hzr] at hP hD
    exact zs_newa0 (t := 5) (dv := vA none) g1 g2 g3 (tl1 g4) (by omega) hx1 hx0 (fun n => ⟨trivial, Or.inl rfl⟩) ⟨hk1.1, hk1.2⟩ hP hD hS k
theorem zs_anew6 (hx : p.tables.exec = Jvm.exec) (hb : c.code = cc) {own : String} {i : Nat} (hown : s.vm.findClass own = some m.cls) (hlink : (Cond.classLink own i "RepeatFree$Pattern").before args s = true) (hover : va_AO "RepeatFree$Pattern" s) (hK : va_K D zcl [] s) (hA : ∀ q, s.heap.size ≤ q → A q) (hx0 : 0 ≤ x) (hx1 : x ≤ 1000000) (hR1 : hn h - hn h0 + 1 ≤ R.cells) (hR2 : hs h - hs h0 + x.toNat ≤ R.slots) (d : decode cc pc = .ok (.anewarray i, 3)) (k : ZGo p l e R s m args below meth c Qf D A ρs hc h0 nL (pc + 3) L (vA (some (hn h)) :: S) (hnew h (6, x.toNat) x.toNat (fun _ => vA none))) : ZGo p l e R s m args below meth c Qf D A ρs hc h0 nL pc L (vI x :: S) h := by
  intro ρ κ H locs ls g1 g2 g3 g4
  have i2 : (Int32.ofInt x).toNatClampNeg = x.toNat := by
    show (Int32.ofInt x).toInt.toNat = _
    rw [o32 (by omega)]
  refine va_newq hx hb hown hlink hover hK g1.2.1.1 g1.2.1.2.1 g1.2.2.1 hA (fun z => ?_) i2 (by omega) hR1 hR2 d (fun qa cA H1 hK1 hP hD hS => ?_)
  · rw [show (0 : Int32) = Int32.ofInt 0 from rfl, c32_lt (by omega) (by omega)] at z
    omega
  · have hk1 := hK1.2 0 (cA, .object "RepeatFree$Pattern") rfl
    have hzr : zarr (zup ρ (hn h) (.ref qa)) 6 x.toNat (fun _ => vA none) = .inr (.inr (.inr (.inr (fun _ => none)))) := by
      unfold zarr
      rw [if_neg (by omega), if_neg (by omega)]
      congr 4
      funext k
      split <;> rfl
    rw [← hzr] at hP hD
    exact zs_newa0 (t := 6) (dv := vA none) g1 g2 g3 (tl1 g4) (by omega) hx1 hx0 (fun n => ⟨trivial, Or.inl rfl⟩) ⟨hk1.1, hk1.2⟩ hP hD hS k
theorem zs_anew7 (hx : p.tables.exec = Jvm.exec) (hb : c.code = cc) {own : String} {i : Nat} (hown : s.vm.findClass own = some m.cls) (hlink : (Cond.classLink own i "[B").before args s = true) (hover : (Cond.arrayOver (.array .byte)).before args s = true) (hA : ∀ q, s.heap.size ≤ q → A q) (hx0 : 0 ≤ x) (hx1 : x ≤ 1000000) (hR1 : hn h - hn h0 + 1 ≤ R.cells) (hR2 : hs h - hs h0 + x.toNat ≤ R.slots) (d : decode cc pc = .ok (.anewarray i, 3)) (k : ZGo p l e R s m args below meth c Qf D A ρs hc h0 nL (pc + 3) L (vA (some (hn h)) :: S) (hnew h (7, x.toNat) x.toNat (fun _ => vA none))) : ZGo p l e R s m args below meth c Qf D A ρs hc h0 nL pc L (vI x :: S) h := by
  intro ρ κ H locs ls g1 g2 g3 g4
  have i2 : (Int32.ofInt x).toNatClampNeg = x.toNat := by
    show (Int32.ofInt x).toInt.toNat = _
    rw [o32 (by omega)]
  have hbs : (FieldType.array .byte).toString = "[B" := by decide +kernel
  refine W.anewA (t := .byte) hx hb hown (by rw [hbs]; exact hlink) hover rfl d rfl (fun z => ?_) (by rw [i2]; omega) hR1 (by rw [i2]; exact hR2) fun cA kA comp f1 f2 f3 f4 => ?_
  · rw [show (0 : Int32) = Int32.ofInt 0 from rfl, c32_lt (by omega) (by omega)] at z
    omega
  rw [i2]
  rw [hbs] at f4
  generalize hH1 : H.push ({ cls := cA, slots := Array.replicate x.toNat .null, vm := .none } : Cell) = H1
  have z1 : H1.size = H.size + 1 := by rw [← hH1, Array.size_push]
  have e1 : H1[H.size]? = some (arrV cA x.toNat (fun _ => .null)) := by rw [← hH1, Array.getElem?_push_size, ← arrV_new]
  have o1 : ∀ q : Nat, q < H.size → H1[q]? = H[q]? := fun q hq => by rw [← hH1, Array.getElem?_push, if_neg (Nat.ne_of_lt hq)]
  have hAr : ArrOfT s cA (.array .byte) := fun N z => ⟨(fun k h => by cases h), kA, f2, comp, f3⟩
  have hS := g1.2.2.1
  have hzr : zarr (zup ρ (hn h) (.ref H.size)) 7 x.toNat (fun _ => vA none) = .inr (.inr (.inr (.inr (fun _ => none)))) := by
    unfold zarr
    rw [if_neg (by omega), if_neg (by omega)]
    congr 4
    funext k
    split <;> rfl
  have hP : va_P D zcl (zWl ρ κ h ++ [(H.size, .inl (cA, x.toNat, .inr (.inr (.inr (.inr (fun _ => none))))))]) H1 := by
    refine (g1.2.1.1.kept (fun k x hx => o1 x.1 ((g1.2.1.1 k x hx).lt))).app (fun k x hx => ?_)
    have hz : k < 1 := (List.getElem?_eq_some_iff.mp hx).1
    rw [show k = 0 by omega] at hx
    cases hx
    exact e1
  have hD : va_D A (zWl ρ κ h ++ [(H.size, .inl (cA, x.toNat, .inr (.inr (.inr (.inr (fun _ => none))))))]) := g1.2.1.2.1.push g1.2.1.1 rfl (hA _ hS.1)
  rw [← hzr] at hP hD
  exact zs_newa0 (t := 7) (dv := vA none) g1 g2 g3 (tl1 g4) (by omega) hx1 hx0 (fun n => ⟨trivial, Or.inl rfl⟩) ⟨hAr, by unfold zRA; rw [if_pos rfl]; exact ⟨kA, comp, f2, f3, f4⟩⟩ hP hD ⟨Nat.le_trans hS.1 (by omega), fun x h1 h2 => (o1 x (Nat.lt_of_lt_of_le h1 hS.1)).trans (hS.2.1 x h1 h2), hS.2.2⟩ k
theorem zs_obj (hx : p.tables.exec = Jvm.exec) (hb : c.code = cc) {own : String} {i : Nat} (hown : s.vm.findClass own = some m.cls) (hl1 : (Cond.methodLink own i Lib.objectInit).before args s = true) (hl2 : (Cond.instanceMethod Lib.objectInit).before args s = true) (hl3 : (Cond.code Lib.objectInit ⟨#[0xb1]⟩ 1 none).before args s = true) (hnl : c.maxLocals = nL) (hR1 : 1 ≤ R.frames) (hR2 : 20 ≤ R.locals) (hz : zw S ≤ 8) (h1 : 55 ≤ a) (d : decode cc pc = .ok (.invokespecial i, 3)) (k : ZGo p l e R s m args below meth c Qf D A ρs hc h0 nL (pc + 3) L S h) : ZGo p l e R s m args below meth c Qf D A ρs hc h0 nL pc L (vA (some a) :: S) h := by
  intro ρ κ H locs ls g1 g2 g3 g4
  have h2 : a < hn h := (hd1 g4).1
  show W p l e R s m args below meth c H locs _ _ Qf (F0 m pc ls (ρ a :: S.map (cv ρ)))
  rw [zSt_ref g1 h1 h2]
  have hsum := zw_sum g1.2.2.2.2.2 (tl1 g4)
  refine W.objInit hx hb hown hl1 hl2 hl3 rfl (by rw [hnl]; exact g2.2.1) rfl d hR1 ?_ (k ρ κ H locs ls g1 g2 g3 (tl1 g4))
  rw [hsum]
  show 0 + zw S + 12 ≤ _
  omega
theorem zs_make (hx : p.tables.exec = Jvm.exec) (hb : c.code = cc) (hl : l.stackTraces = false) {own cls : String} {names : List String} {ik ic k0 : Nat} {T0 : u_T} (hown : s.vm.findClass own = some m.cls) (hcls : Bundle.fit cls = true) (hnames : ∀ n ∈ names, Bundle.fit n = true) (hk0 : (Cond.classLink own ik cls).before args s = true) (hini : (Cond.initialized cls).before args s = true) (hat : ∀ w ∈ vx_at0 own ic cls names, w.before args s = true) (hgood : ∀ w ∈ Cond.classLink own ik cls :: Cond.initialized cls :: vx_at0 own ic cls names, vx_ot w = true)
    (hU : vx_Zq Bundle.tN "UNASSIGNED_STACK" Bundle.steD A s s.heap) (hN : vx_Zq Bundle.tN "SUPPRESSED_SENTINEL" Bundle.listD A s s.heap) (hnl : c.maxLocals = nL) (hK : va_K D zcl [] s) (hA : ∀ q, s.heap.size ≤ q → A q) (hk1 : 120 ≤ k0 ∧ k0 ≤ 123) (hcl : zcl[k0 - 100]? = some (cls, T0, 0)) (hRf : names.length + 3 < R.frames) (hRl : 8 + (13 * (names.length + 1) + 42) ≤ R.locals) (hR1 : hn h - hn h0 + 1 ≤ R.cells) (hR2 : hs h - hs h0 + 6 ≤ R.slots) (hz : zw S ≤ 8)
    (d0 : decode cc pc = .ok (.new ik, 3)) (d3 : decode cc (pc + 3) = .ok (.dup, 1)) (d4 : decode cc (pc + 4) = .ok (.invokespecial ic, 3)) (k : ZGo p l e R s m args below meth c Qf D A ρs hc h0 nL (pc + 7) L (vA (some (hn h)) :: S) (hnew h (k0, 0) 6 zdf)) : ZGo p l e R s m args below meth c Qf D A ρs hc h0 nL pc L S h := by
  intro ρ κ H locs ls g1 g2 g3 g4
  have hsum := zw_sum g1.2.2.2.2.2 g4
  have hof : zOF k0 = [] := by
    rcases (show k0 = 120 ∨ k0 = 121 ∨ k0 = 122 ∨ k0 = 123 by omega) with z | z | z | z <;> (rw [z]; rfl)
  refine vx_make0 hx hb hl hown hcls hnames hk0 hini hat hgood hU hN g1.2.2.1 (by rw [hnl]; exact g2.2.1) d0 d3 d4 hK g1.2.1.1 g1.2.1.2.1 hA hcl hRf (by rw [hsum]; omega) hR1 hR2 (fun q H1 hP hD hS => ?_)
  have ek : hk (hnew h (k0, 0) 6 zdf) (hn h) = (k0, 0) := by rw [hk_new, if_pos rfl]
  have hee : zE (zup ρ (hn h) (.ref q)) (zup κ (hn h) 0) (hnew h (k0, 0) 6 zdf) (hn h) = .inr (k0 - 100, []) := by
    rw [zE_obj (by rw [ek]; show 100 ≤ k0; omega), ek, hof]
    rfl
  rw [← hee] at hP hD
  have hr := g1.2.1.new (U := s) (Or.inl ⟨by show 100 ≤ k0; omega, by show k0 ≤ 123; omega, fun f hf0 => by rw [hof] at hf0; cases hf0⟩) (fun z => by have z : k0 ≤ 7 := z; omega) hP hD
  have kk := k _ _ H1 locs ls (zSt_new g1 hr hS) (zLoc_ext g2 (fun b hb => zup_n _ _ (by omega)) g3) (fun v hv => vok_mono (Nat.le_succ _) (g3 v hv)) (all1 (vok_a (fun b z => by cases z; rw [hn_new]; omega)) (fun w hw => ⟨vok_mono (Nat.le_succ _) (g4 w hw).1, (g4 w hw).2⟩))
  rw [hn_new, hs_new] at kk
  have e1 : hn h + 1 - hn h0 = hn h - hn h0 + 1 := by have := g1.2.2.2.2.1.1; omega
  have e2 : hs h + 6 - hs h0 = hs h - hs h0 + 6 := by have := g1.2.2.2.2.1.2; omega
  rw [e1, e2] at kk
  have kk : W p l e R s m args below meth c H1 locs (hn h - hn h0 + 1) (hs h - hs h0 + 6) Qf (F0 m (pc + 7) ls (zup ρ (hn h) (.ref q) (hn h) :: S.map (cv (zup ρ (hn h) (.ref q))))) := kk
  rw [zup_s, zmap_ext (fun w hw => (g4 w hw).1)] at kk
  exact kk
end
