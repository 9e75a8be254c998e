/-! Going on: stores of references, new arrays. -/
section
variable {p : Program} {l : Launch} {e : Env} {R : Room} {s : State} {m : MethodId} {args : Array Value} {below : List Frame} {meth : Method} {c : Code} {Qf : State → Prop} {D : va_G} {A : Nat → Prop} {ρs : Nat → Value} {hc h0 : MH} {nL pc nx : Nat} {L S : List V} {h : MH} {cc : ByteArray} {x y : Int} {r q : Option Nat} {a b : Nat}
theorem zE_putq {ρ : Nat → Value} {κ : Nat → ClassId} {h : MH} {a : Nat} {x : Int} {r : Option Nat} (h5 : 5 ≤ (hk h a).1 ∧ (hk h a).1 ≤ 7) (hx0 : 0 ≤ x) (hx1 : x < ((hk h a).2 : Int)) (i2 : (Int32.ofInt x).toNatClampNeg = x.toNat) : zE ρ κ (hput h a x.toNat (vA r)) a = .inl (κ a, (hk h a).2, .inr (.inr (.inr (.inr (va_up (fun k => if k < (hk h a).2 then vrf ρ (hm h a k) else none) (Int32.ofInt x).toNatClampNeg (vrf ρ (vA r))))))) := by
  have hj : x.toNat < (hk h a).2 := by omega
  rw [zE_arr (by rw [hk_put]; omega), hk_put]
  unfold zarr
  rw [if_neg (by omega), if_neg (by omega)]
  congr 7
  funext k
  rw [hm_put, i2]
  unfold va_up
  by_cases hkx : k = x.toNat
  · subst hkx
    rw [if_pos hj, if_pos ⟨rfl, rfl⟩, if_pos rfl]
  · simp [hkx]
/-- an object at an address, of a class that the tables say can be cast to E -/
theorem zAnyO {κ : Nat → ClassId} {ρ : Nat → Value} {H : Heap} {locs : List Loc} {E C : String} (hK : va_K D zcl [] s) (g : zSt D A ρs hc h0 s ρ κ h H locs) (h1 : 55 ≤ b) (h2 : b < hn h) (hc1 : 100 ≤ (hk h b).1) (hcn : zcn ((hk h b).1 - 100) = C) (hcs : va_Nw (.castable C E) s) : va_Any E s H (ca ρ b) := by
  have he := zSt_get g h1 h2
  rw [zE_obj hc1] at he
  have hP := g.2.1.1 (b - 55) _ he
  obtain ⟨r, hr, cell, g1, g2, g3, -⟩ := hP
  have hC := (hK.1 _ r hr).2
  have hrn : r.1 = C := by
    rw [← hcn]; unfold zcn; rw [hr]
  rw [hrn] at hC
  obtain ⟨kC, hkC, -⟩ := hC.2
  refine ⟨cell, g1, by rw [g3]; rfl, ⟨kC, by rw [g2]; exact hkC⟩, fun comp hcomp => ?_⟩
  obtain ⟨c1, t1, q1, q2, q3⟩ := Cond.castable_spec hcs
  rw [hC.1] at q1
  rw [hcomp] at q2
  cases q1; cases q2
  rw [g2]; exact q3
theorem zs_aastore (hx : p.tables.exec = Jvm.exec) (hb : c.code = cc) (hK : va_K D zcl [] s) (d : decode cc pc = .ok (.aastore, 1)) (h1 : 55 ≤ a) (hk1 : 5 ≤ (hk h a).1 ∧ (hk h a).1 ≤ 6) (hx0 : 0 ≤ x) (hx1 : x < ((hk h a).2 : Int)) (hr3 : r = none ∨ ∃ b, r = some b ∧ 3 ≤ b)
    (hany : ∀ b, r = some b → ∀ (ρ : Nat → Value) (κ : Nat → ClassId) (H : Heap) (locs : List Loc), zSt D A ρs hc h0 s ρ κ h H locs → b < hn h → ρ b = .ref (ca ρ b) ∧ va_Any (if (hk h a).1 = 5 then "java/lang/Object" else "RepeatFree$Pattern") s H (ca ρ b)) (k : ZGo p l e R s m args below meth c Qf D A ρs hc h0 nL (pc + 1) L S (hput h a x.toNat (vA r))) : ZGo p l e R s m args below meth c Qf D A ρs hc h0 nL pc L (vA r :: vI x :: vA (some a) :: S) h := by
  intro ρ κ H locs ls g1 g2 g3 g4
  have h2 : a < hn h := (hd1 (tl1 (tl1 g4))).1
  obtain ⟨he, hl, hel⟩ := zSt_arr g1 h1 h2 (by omega)
  obtain ⟨i1, i2⟩ := zix hx0 hx1 hl
  have hj : x.toNat < (hk h a).2 := by omega
  have hK1 := zSt_K hK g1 h1 h2 (by omega)
  have hty : zaty (hk h a).1 = .object (if (hk h a).1 = 5 then "java/lang/Object" else "RepeatFree$Pattern") := by
    rcases (show (hk h a).1 = 5 ∨ (hk h a).1 = 6 by omega) with z | z <;> (rw [z]; rfl)
  rw [hty] at hK1
  have hei : (zWl ρ κ h)[a - 55]? = some (ca ρ a, .inl (κ a, (hk h a).2, .inr (.inr (.inr (.inr (fun k => if k < (hk h a).2 then vrf ρ (hm h a k) else none)))))) := by
    rw [he]; unfold zarr; rw [if_neg (by omega), if_neg (by omega)]
  have fin : ∀ (H1 : Heap) (locs1 : List Loc), va_P D zcl ((zWl ρ κ h).set (a - 55) (ca ρ a, .inl (κ a, (hk h a).2, .inr (.inr (.inr (.inr (va_up (fun k => if k < (hk h a).2 then vrf ρ (hm h a k) else none) (Int32.ofInt x).toNatClampNeg (vrf ρ (vA r))))))))) H1 → va_D A ((zWl ρ κ h).set (a - 55) (ca ρ a, .inl (κ a, (hk h a).2, .inr (.inr (.inr (.inr (va_up (fun k => if k < (hk h a).2 then vrf ρ (hm h a k) else none) (Int32.ofInt x).toNatClampNeg (vrf ρ (vA r))))))))) → va_S A s.heap H1 locs1 → W p l e R s m args below meth c H1 locs1 (hn h - hn h0) (hs h - hs h0) Qf (F0 m (pc + 1) ls (S.map (cv ρ))) := by
    intro H1 locs1 hP hD hS
    rw [← zE_putq (by omega) hx0 hx1 i2] at hP hD
    have hel9 : zelok (hk h a).1 (vA r) := by
      have z9 : vA r = vA none ∨ ∃ b, vA r = vA (some b) ∧ 3 ≤ b := by
        rcases hr3 with z | ⟨b, z, z3⟩
        · exact Or.inl (by rw [z])
        · exact Or.inr ⟨b, by rw [z], z3⟩
      rcases (show (hk h a).1 = 5 ∨ (hk h a).1 = 6 by omega) with z | z <;> (rw [z]; exact z9)
    have hr := g1.2.1.put h1 h2 (v := vA r) (k := x.toNat) (hd1 g4).1 (fun z => by omega) (fun _ => hel9) hP hD
    exact k ρ κ H1 locs1 ls (zSt_put g1 h1 hr hS) g2 g3 (tl1 (tl1 (tl1 g4)))
  cases r with
  | none =>
    show W p l e R s m args below meth c H locs _ _ Qf (F0 m pc ls (.null :: .int (Int32.ofInt x) :: ρ a :: S.map (cv ρ)))
    rw [zSt_ref g1 h1 h2]
    exact va_astqN hx hb hK1 g1.2.1.1 g1.2.1.2.1 g1.2.2.1 (a - 55) 0 hei rfl i1 d fin
  | some b =>
    obtain ⟨hb1, hb2⟩ := hany b rfl ρ κ H locs g1 (hd1 g4).1
    show W p l e R s m args below meth c H locs _ _ Qf (F0 m pc ls (ρ b :: .int (Int32.ofInt x) :: ρ a :: S.map (cv ρ)))
    rw [zSt_ref g1 h1 h2, hb1]
    exact va_astqM hx hb hK1 g1.2.1.1 g1.2.1.2.1 g1.2.2.1 (a - 55) 0 hei rfl hb2 i1 d fin
/-- arrays of arrays of bytes -/
theorem zs_aastB (hx : p.tables.exec = Jvm.exec) (hb : c.code = cc) (d : decode cc pc = .ok (.aastore, 1)) (h1 : 55 ≤ a) (hk1 : (hk h a).1 = 7) (hx0 : 0 ≤ x) (hx1 : x < ((hk h a).2 : Int)) (h1b : 55 ≤ b) (hkb : (hk h b).1 = 2) (k : ZGo p l e R s m args below meth c Qf D A ρs hc h0 nL (pc + 1) L S (hput h a x.toNat (vA (some b)))) : ZGo p l e R s m args below meth c Qf D A ρs hc h0 nL pc L (vA (some b) :: vI x :: vA (some a) :: S) h := by
  intro ρ κ H locs ls g1 g2 g3 g4
  have h2b : b < hn h := (hd1 g4).1
  have h2 : a < hn h := (hd1 (tl1 (tl1 g4))).1
  obtain ⟨he, hl, hel⟩ := zSt_arr g1 h1 h2 (by omega)
  obtain ⟨heb, -, -⟩ := zSt_arr g1 h1b h2b (by omega)
  obtain ⟨i1, i2⟩ := zix hx0 hx1 hl
  have hj : x.toNat < (hk h a).2 := by omega
  have hei : (zWl ρ κ h)[a - 55]? = some (ca ρ a, .inl (κ a, (hk h a).2, .inr (.inr (.inr (.inr (fun k => if k < (hk h a).2 then vrf ρ (hm h a k) else none)))))) := by
    rw [he]; unfold zarr; rw [if_neg (by omega), if_neg (by omega)]
  have hra := (g1.2.1.2.2.2.2 a h1 h2 (by omega)).2
  unfold zRA at hra
  rw [if_pos hk1] at hra
  obtain ⟨kA, comp, k1, k2, k3⟩ := hra
  have hrb := (g1.2.1.2.2.2.2 b h1b h2b (by omega)).2
  unfold zRA at hrb
  rw [if_neg (by omega), hkb] at hrb
  have hrb : s.vm.findClass "[B" = some (κ b) := hrb
  have hcomp : comp = κ b := Option.some.inj (k3.symm.trans hrb)
  subst hcomp
  obtain ⟨kE, hkE, -⟩ := Vm.findClass_spec k3
  have hcb := g1.2.1.1 (b - 55) _ heb
  have hcb' : ∃ cv0 : Cell, H[ca ρ b]? = some cv0 ∧ cv0.cls = κ b ∧ cv0.vm = .none := by
    have hcb2 : H[ca ρ b]? = some (vp_cell (κ b) ((hk h b).2, zarr ρ (hk h b).1 (hk h b).2 (hm h b))) := hcb
    refine ⟨_, hcb2, ?_, ?_⟩
    · generalize zarr ρ (hk h b).1 (hk h b).2 (hm h b) = za
      rcases za with f | f | f | f | f <;> rfl
    · generalize zarr ρ (hk h b).1 (hk h b).2 (hm h b) = za
      rcases za with f | f | f | f | f <;> rfl
  obtain ⟨cv0, v1, v2, v3⟩ := hcb'
  show W p l e R s m args below meth c H locs _ _ Qf (F0 m pc ls (ρ b :: .int (Int32.ofInt x) :: ρ a :: S.map (cv ρ)))
  rw [zSt_ref g1 h1 h2, zSt_ref g1 h1b h2b]
  refine W.aast hx hb (g1.2.1.1 (a - 55) _ hei) (fun q h => by cases h) (fun h => by cases h) k1 k2 rfl hkE ⟨fun z => i1 (Or.inl z), by show _ < (arrV _ _ _).slots.size; rw [arrV_size, i2]; exact hj⟩ v1 (fun q h => by rw [v3] at h; cases h) (by rw [v2]; exact hkE) (by rw [v2]; exact va_asg _ _) rfl rfl d fun H1 e z oq => ?_
  have hP9 : va_at D zcl (ca ρ a, .inl (κ a, (hk h a).2, .inr (.inr (.inr (.inr (va_up (fun k => if k < (hk h a).2 then vrf ρ (hm h a k) else none) (Int32.ofInt x).toNatClampNeg (some (ca ρ b)))))))) H1 := by
    show H1[_]? = some (vp_cell _ _)
    rw [e]
    rw [vp_cell_q, vp_cell_q, arrV_store]
    congr 2
    funext q
    by_cases hq : q = (Int32.ofInt x).toNatClampNeg
    · subst hq
      simp [updV, va_up, va_rf]
    · simp [updV, va_up, hq]
  have hP := g1.2.1.1.set g1.2.1.2.1 hei hP9 oq
  have hD := g1.2.1.2.1.set (e := .inl (κ a, (hk h a).2, .inr (.inr (.inr (.inr (va_up (fun k => if k < (hk h a).2 then vrf ρ (hm h a k) else none) (Int32.ofInt x).toNatClampNeg (some (ca ρ b)))))))) hei
  have hee := zE_putq (ρ := ρ) (κ := κ) (r := some b) (by omega) hx0 hx1 i2
  have hee2 : vrf ρ (vA (some b)) = some (ca ρ b) := rfl
  rw [hee2] at hee
  rw [← hee] at hP hD
  have hel9 : zelok (hk h a).1 (vA (some b)) := by
    rw [hk1]
    exact Or.inr ⟨b, rfl, by omega⟩
  have hr := g1.2.1.put h1 h2 (v := vA (some b)) (k := x.toNat) (hd1 g4).1 (fun z => by omega) (fun _ => hel9) hP hD
  exact k ρ κ H1 _ ls (zSt_put g1 h1 hr (g1.2.2.1.put z oq (g1.2.1.2.1.2 (a - 55) _ hei))) g2 g3 (tl1 (tl1 (tl1 g4)))
end
