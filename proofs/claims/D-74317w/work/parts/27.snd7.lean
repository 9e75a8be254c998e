/-! Going on: arrays. -/
theorem zix {x : Int} {n : Nat} (h1 : 0 ≤ x) (h2 : x < (n : Int)) (hn0 : n ≤ 1000000) : vp_in (Int32.ofInt x) n ∧ (Int32.ofInt x).toNatClampNeg = x.toNat := by
  have e : (Int32.ofInt x).toInt = x := o32 (by omega)
  refine ⟨vp_in_iff.mpr (by rw [e]; exact ⟨h1, h2⟩), ?_⟩
  show (Int32.ofInt x).toInt.toNat = _
  rw [e]
section
variable {p : Program} {l : Launch} {e : Env} {R : Room} {s : State} {m : MethodId} {args : Array Value} {below : List Frame} {meth : Method} {c : Code} {Qf : State → Prop} {D : va_G} {A : Nat → Prop} {ρs : Nat → Value} {hc h0 : MH} {nL pc nx : Nat} {L S : List V} {h : MH} {cc : ByteArray} {x y : Int} {r q : Option Nat} {a b : Nat}
theorem zSt_arr {κ : Nat → ClassId} {ρ : Nat → Value} {H : Heap} {locs : List Loc} (g : zSt D A ρs hc h0 s ρ κ h H locs) (h1 : 55 ≤ a) (h2 : a < hn h) (hk7 : (hk h a).1 ≤ 7) : (zWl ρ κ h)[a - 55]? = some (ca ρ a, .inl (κ a, (hk h a).2, zarr ρ (hk h a).1 (hk h a).2 (hm h a))) ∧ (hk h a).2 ≤ 1000000 ∧ ∀ k, k < (hk h a).2 → vok (hn h) (hm h a k) ∧ zelok (hk h a).1 (hm h a k) := by
  have he := zSt_get g h1 h2
  rw [zE_arr (by omega)] at he
  refine ⟨he, ?_⟩
  rcases g.2.1.2.2.1.2 a h1 h2 with ⟨c1, -⟩ | ⟨-, -, c3, c4⟩
  · omega
  · exact ⟨c3, c4⟩
theorem zSt_K {κ : Nat → ClassId} {ρ : Nat → Value} {H : Heap} {locs : List Loc} (hK : va_K D zcl [] s) (g : zSt D A ρs hc h0 s ρ κ h H locs) (h1 : 55 ≤ a) (h2 : a < hn h) (hk7 : (hk h a).1 ≤ 6) : va_K D zcl [(κ a, zaty (hk h a).1)] s := by
  refine ⟨hK.1, fun k q hq => ?_⟩
  have hk0 : k = 0 := by
    have := (List.getElem?_eq_some_iff.mp hq).1
    simp at this; exact this
  subst hk0
  cases hq
  have := g.2.1.2.2.2.2 a h1 h2 (by omega)
  refine ⟨this.1, ?_⟩
  have h3 := this.2
  unfold zRA at h3
  rw [if_neg (by omega)] at h3
  exact h3
theorem zel_ne {t : Nat} {v : V} (ht : t ≤ 7) (h : zelok t v) : v ≠ vJ := by
  intro z
  subst z
  match t, ht, h with
  | 0, _, h => rcases h with h | ⟨b, h, -⟩ <;> cases h
  | 1, _, h => obtain ⟨x, h⟩ := h; cases h
  | 2, _, h => obtain ⟨x, h, -⟩ := h; cases h
  | 3, _, h => obtain ⟨x, h, -⟩ := h; cases h
  | 4, _, h => obtain ⟨x, h⟩ := h; cases h
  | 5, _, h => rcases h with h | ⟨b, h, -⟩ <;> cases h
  | 6, _, h => rcases h with h | ⟨b, h, -⟩ <;> cases h
  | 7, _, h => rcases h with h | ⟨b, h, -⟩ <;> cases h
  | n + 8, ht, _ => omega
theorem zel_i {t : Nat} {v : V} (h1 : 1 ≤ t) (h3 : t ≤ 3) (h : zelok t v) : ∃ x, v = vI x := by
  rcases (show t = 1 ∨ t = 2 ∨ t = 3 by omega) with rfl | rfl | rfl
  · exact h
  · obtain ⟨x, h, -⟩ := h; exact ⟨x, h⟩
  · obtain ⟨x, h, -⟩ := h; exact ⟨x, h⟩
theorem zs_alen (hx : p.tables.exec = Jvm.exec) (hb : c.code = cc) (hK : va_K D zcl [] s) (d : decode cc pc = .ok (.arraylength, 1)) (h1 : 55 ≤ a) (hk1 : 1 ≤ (hk h a).1 ∧ (hk h a).1 ≤ 7) (k : ZGo p l e R s m args below meth c Qf D A ρs hc h0 nL (pc + 1) L (vI ((hk h a).2 : Int) :: S) h) : ZGo p l e R s m args below meth c Qf D A ρs hc h0 nL pc L (vA (some a) :: S) h := by
  intro ρ κ H locs ls g1 g2 g3 g4
  have h2 : a < hn h := (hd1 g4).1
  obtain ⟨he, hl, -⟩ := zSt_arr g1 h1 h2 hk1.2
  have kk := k ρ κ H locs ls g1 g2 g3 (all1 (vok_i (by omega)) (tl1 g4))
  show W p l e R s m args below meth c H locs _ _ Qf (F0 m pc ls (ρ a :: S.map (cv ρ)))
  rw [zSt_ref g1 h1 h2]
  have hcell := g1.2.1.1 (a - 55) _ he
  have harr := (g1.2.1.2.2.2.2 a h1 h2 hk1.2).1
  have kk : W p l e R s m args below meth c H locs _ _ Qf (F0 m (pc + 1) ls (.int (Int32.ofInt ((hk h a).2 : Int)) :: S.map (cv ρ))) := kk
  rw [show Int32.ofInt ((hk h a).2 : Int) = Int32.ofNat (hk h a).2 from Int32.ofInt_eq_ofNat] at kk
  revert hcell
  generalize zarr ρ (hk h a).1 (hk h a).2 (hm h a) = za
  intro hcell
  rcases za with f | f | f | f | f
  · exact W.alen (n := Int32.ofNat (hk h a).2) hx hb hcell (harr _ (fun j => .int (f j))) (by rw [vp_cell_i, arrV_size] <;> rfl) rfl rfl d kk
  · exact W.alen (n := Int32.ofNat (hk h a).2) hx hb hcell (harr _ (fun j => .long (f j))) (by rw [vp_cell_l, arrV_size] <;> rfl) rfl rfl d kk
  · exact W.alen (n := Int32.ofNat (hk h a).2) hx hb hcell (harr _ (fun j => .float (f j))) (by rw [vp_cell_f, arrV_size] <;> rfl) rfl rfl d kk
  · exact W.alen (n := Int32.ofNat (hk h a).2) hx hb hcell (harr _ (fun j => .double (f j))) (by rw [vp_cell_d, arrV_size] <;> rfl) rfl rfl d kk
  · exact W.alen (n := Int32.ofNat (hk h a).2) hx hb hcell (harr _ (fun j => va_rf (f j))) (by rw [vp_cell_q, arrV_size] <;> rfl) rfl rfl d kk
theorem zs_iaload (hx : p.tables.exec = Jvm.exec) (hb : c.code = cc) (hK : va_K D zcl [] s) (d : decode cc pc = .ok (.iaload, 1)) (h1 : 55 ≤ a) (hk1 : (hk h a).1 = 1) (hx0 : 0 ≤ x) (hx1 : x < ((hk h a).2 : Int)) (k : ZGo p l e R s m args below meth c Qf D A ρs hc h0 nL (pc + 1) L (hm h a x.toNat :: S) h) : ZGo p l e R s m args below meth c Qf D A ρs hc h0 nL pc L (vI x :: vA (some a) :: S) h := by
  intro ρ κ H locs ls g1 g2 g3 g4
  have h2 : a < hn h := (hd1 (tl1 g4)).1
  obtain ⟨he, hl, hel⟩ := zSt_arr g1 h1 h2 (by omega)
  obtain ⟨i1, i2⟩ := zix hx0 hx1 hl
  have hj : x.toNat < (hk h a).2 := by omega
  have hv := hel x.toNat hj
  have kk := k ρ κ H locs ls g1 g2 g3 (all1 ⟨hv.1, zel_ne (by omega) hv.2⟩ (tl1 (tl1 g4)))
  have kk : W p l e R s m args below meth c H locs _ _ Qf (F0 m (pc + 1) ls (cv ρ (hm h a x.toNat) :: S.map (cv ρ))) := kk
  have hK1 := zSt_K hK g1 h1 h2 (by omega)
  show W p l e R s m args below meth c H locs _ _ Qf (F0 m pc ls (.int (Int32.ofInt x) :: ρ a :: S.map (cv ρ)))
  rw [zSt_ref g1 h1 h2]
  have hei : (zWl ρ κ h)[a - 55]? = some (ca ρ a, .inl (κ a, (hk h a).2, .inl (fun k => if k < (hk h a).2 then vi32 (hm h a k) else 0))) := by
    rw [he]; unfold zarr; rw [if_pos (by omega)]
  obtain ⟨z, hz⟩ := zel_i (by omega) (by omega) hv.2
  have ev : Value.int ((fun k => if k < (hk h a).2 then vi32 (hm h a k) else 0) (Int32.ofInt x).toNatClampNeg) = cv ρ (hm h a x.toNat) := by
    rw [i2]; dsimp only; rw [if_pos hj, hz]; rfl
  rw [← ev] at kk
  rw [hk1] at hK1
  exact va_iald hx hb hK1 g1.2.1.1 (a - 55) 0 hei rfl i1 d kk
theorem zs_baload (hx : p.tables.exec = Jvm.exec) (hb : c.code = cc) (hK : va_K D zcl [] s) (d : decode cc pc = .ok (.baload, 1)) (h1 : 55 ≤ a) (hk1 : (hk h a).1 = 2 ∨ (hk h a).1 = 3) (hx0 : 0 ≤ x) (hx1 : x < ((hk h a).2 : Int)) (k : ZGo p l e R s m args below meth c Qf D A ρs hc h0 nL (pc + 1) L (hm h a x.toNat :: S) h) : ZGo p l e R s m args below meth c Qf D A ρs hc h0 nL pc L (vI x :: vA (some a) :: S) h := by
  intro ρ κ H locs ls g1 g2 g3 g4
  have h2 : a < hn h := (hd1 (tl1 g4)).1
  obtain ⟨he, hl, hel⟩ := zSt_arr g1 h1 h2 (by omega)
  obtain ⟨i1, i2⟩ := zix hx0 hx1 hl
  have hj : x.toNat < (hk h a).2 := by omega
  have hv := hel x.toNat hj
  have kk := k ρ κ H locs ls g1 g2 g3 (all1 ⟨hv.1, zel_ne (by omega) hv.2⟩ (tl1 (tl1 g4)))
  have kk : W p l e R s m args below meth c H locs _ _ Qf (F0 m (pc + 1) ls (cv ρ (hm h a x.toNat) :: S.map (cv ρ))) := kk
  have hK1 := zSt_K hK g1 h1 h2 (by omega)
  show W p l e R s m args below meth c H locs _ _ Qf (F0 m pc ls (.int (Int32.ofInt x) :: ρ a :: S.map (cv ρ)))
  rw [zSt_ref g1 h1 h2]
  have hei : (zWl ρ κ h)[a - 55]? = some (ca ρ a, .inl (κ a, (hk h a).2, .inl (fun k => if k < (hk h a).2 then vi32 (hm h a k) else 0))) := by
    rw [he]; unfold zarr; rw [if_pos (by omega)]
  obtain ⟨z, hz⟩ := zel_i (by omega) (by omega) hv.2
  have ev : Value.int ((fun k => if k < (hk h a).2 then vi32 (hm h a k) else 0) (Int32.ofInt x).toNatClampNeg) = cv ρ (hm h a x.toNat) := by
    rw [i2]; dsimp only; rw [if_pos hj, hz]; rfl
  rw [← ev] at kk
  rcases hk1 with hk1 | hk1
  · rw [hk1] at hK1
    exact va_bald hx hb hK1 g1.2.1.1 (a - 55) 0 hei rfl i1 d kk
  · rw [hk1] at hK1
    exact va_zald hx hb hK1 g1.2.1.1 (a - 55) 0 hei rfl i1 d kk
theorem zs_laload (hx : p.tables.exec = Jvm.exec) (hb : c.code = cc) (hK : va_K D zcl [] s) (d : decode cc pc = .ok (.laload, 1)) (h1 : 55 ≤ a) (hk1 : (hk h a).1 = 4) (hx0 : 0 ≤ x) (hx1 : x < ((hk h a).2 : Int)) (k : ZGo p l e R s m args below meth c Qf D A ρs hc h0 nL (pc + 1) L (hm h a x.toNat :: S) h) : ZGo p l e R s m args below meth c Qf D A ρs hc h0 nL pc L (vI x :: vA (some a) :: S) h := by
  intro ρ κ H locs ls g1 g2 g3 g4
  have h2 : a < hn h := (hd1 (tl1 g4)).1
  obtain ⟨he, hl, hel⟩ := zSt_arr g1 h1 h2 (by omega)
  obtain ⟨i1, i2⟩ := zix hx0 hx1 hl
  have hj : x.toNat < (hk h a).2 := by omega
  have hv := hel x.toNat hj
  have kk := k ρ κ H locs ls g1 g2 g3 (all1 ⟨hv.1, zel_ne (by omega) hv.2⟩ (tl1 (tl1 g4)))
  have kk : W p l e R s m args below meth c H locs _ _ Qf (F0 m (pc + 1) ls (cv ρ (hm h a x.toNat) :: S.map (cv ρ))) := kk
  have hK1 := zSt_K hK g1 h1 h2 (by omega)
  show W p l e R s m args below meth c H locs _ _ Qf (F0 m pc ls (.int (Int32.ofInt x) :: ρ a :: S.map (cv ρ)))
  rw [zSt_ref g1 h1 h2]
  have hei : (zWl ρ κ h)[a - 55]? = some (ca ρ a, .inl (κ a, (hk h a).2, .inr (.inl (fun k => if k < (hk h a).2 then vi64 (hm h a k) else 0)))) := by
    rw [he]; unfold zarr; rw [if_neg (by omega), if_pos hk1]
  have hz : ∃ z, hm h a x.toNat = vL z := by
    have := hv.2
    rw [hk1] at this
    exact this
  obtain ⟨z, hz⟩ := hz
  have ev : Value.long ((fun k => if k < (hk h a).2 then vi64 (hm h a k) else 0) (Int32.ofInt x).toNatClampNeg) = cv ρ (hm h a x.toNat) := by
    rw [i2]; dsimp only; rw [if_pos hj, hz]; rfl
  rw [← ev] at kk
  rw [hk1] at hK1
  exact va_lald hx hb hK1 g1.2.1.1 (a - 55) 0 hei rfl i1 d kk
theorem zs_aaload (hx : p.tables.exec = Jvm.exec) (hb : c.code = cc) (hρ3 : ∀ (ρ : Nat → Value) {κ : Nat → ClassId} {H : Heap} {locs : List Loc}, zSt D A ρs hc h0 s ρ κ h H locs → ∀ b, 3 ≤ b → b < hn h → ρ b = .ref (ca ρ b)) (hK : va_K D zcl [] s) (d : decode cc pc = .ok (.aaload, 1)) (h1 : 55 ≤ a) (hk1 : 5 ≤ (hk h a).1 ∧ (hk h a).1 ≤ 7) (hx0 : 0 ≤ x) (hx1 : x < ((hk h a).2 : Int)) (k : ZGo p l e R s m args below meth c Qf D A ρs hc h0 nL (pc + 1) L (hm h a x.toNat :: S) h) : ZGo p l e R s m args below meth c Qf D A ρs hc h0 nL pc L (vI x :: vA (some a) :: S) h := by
  intro ρ κ H locs ls g1 g2 g3 g4
  have h2 : a < hn h := (hd1 (tl1 g4)).1
  obtain ⟨he, hl, hel⟩ := zSt_arr g1 h1 h2 (by omega)
  obtain ⟨i1, i2⟩ := zix hx0 hx1 hl
  have hj : x.toNat < (hk h a).2 := by omega
  have hv := hel x.toNat hj
  have kk := k ρ κ H locs ls g1 g2 g3 (all1 ⟨hv.1, zel_ne (by omega) hv.2⟩ (tl1 (tl1 g4)))
  have kk : W p l e R s m args below meth c H locs _ _ Qf (F0 m (pc + 1) ls (cv ρ (hm h a x.toNat) :: S.map (cv ρ))) := kk
  show W p l e R s m args below meth c H locs _ _ Qf (F0 m pc ls (.int (Int32.ofInt x) :: ρ a :: S.map (cv ρ)))
  rw [zSt_ref g1 h1 h2]
  have hei : (zWl ρ κ h)[a - 55]? = some (ca ρ a, .inl (κ a, (hk h a).2, .inr (.inr (.inr (.inr (fun k => if k < (hk h a).2 then vrf ρ (hm h a k) else none)))))) := by
    rw [he]; unfold zarr; rw [if_neg (by omega), if_neg (by omega)]
  have ev : va_rf ((fun k => if k < (hk h a).2 then vrf ρ (hm h a k) else none) (Int32.ofInt x).toNatClampNeg) = cv ρ (hm h a x.toNat) := by
    rw [i2]; dsimp only; rw [if_pos hj]
    have h9 := hv.2
    have h8 := hv.1
    have h7 : hm h a x.toNat = vA none ∨ ∃ b, hm h a x.toNat = vA (some b) ∧ 3 ≤ b := by
      rcases (show (hk h a).1 = 5 ∨ (hk h a).1 = 6 ∨ (hk h a).1 = 7 by omega) with z | z | z <;> (rw [z] at h9; exact h9)
    rcases h7 with z | ⟨b, z, hb3⟩
    · rw [z]; rfl
    · rw [z] at h8 ⊢
      show va_rf (some (ca ρ b)) = ρ b
      exact (hρ3 ρ g1 b hb3 h8).symm
  rw [← ev] at kk
  have hcell := g1.2.1.1 (a - 55) _ hei
  have harr := (g1.2.1.2.2.2.2 a h1 h2 (by omega)).1
  refine W.aald (v := va_rf ((fun k => if k < (hk h a).2 then vrf ρ (hm h a k) else none) (Int32.ofInt x).toNatClampNeg)) (ty := zaty (hk h a).1) hx hb hcell (harr _ _) ?_ (fun q => by cases q) (by show ¬ (_ < 0 ∨ (arrV _ _ _).slots.size ≤ _); rw [arrV_size]; exact i1) (by show (arrV _ _ _).slots[_]? = _; rw [arrV_read _ _ (by rw [i2]; exact hj)]) rfl rfl d kk
  rcases (show (hk h a).1 = 5 ∨ (hk h a).1 = 6 ∨ (hk h a).1 = 7 by omega) with z | z | z <;> (rw [z]; rfl)
theorem zs_iastore (hx : p.tables.exec = Jvm.exec) (hb : c.code = cc) (hK : va_K D zcl [] s) (d : decode cc pc = .ok (.iastore, 1)) (h1 : 55 ≤ a) (hk1 : (hk h a).1 = 1) (hx0 : 0 ≤ x) (hx1 : x < ((hk h a).2 : Int)) (k : ZGo p l e R s m args below meth c Qf D A ρs hc h0 nL (pc + 1) L S (hput h a x.toNat (vI y))) : ZGo p l e R s m args below meth c Qf D A ρs hc h0 nL pc L (vI y :: vI x :: vA (some a) :: S) h := by
  intro ρ κ H locs ls g1 g2 g3 g4
  have h2 : a < hn h := (hd1 (tl1 (tl1 g4))).1
  obtain ⟨he, hl, hel⟩ := zSt_arr g1 h1 h2 (by omega)
  obtain ⟨i1, i2⟩ := zix hx0 hx1 hl
  have hj : x.toNat < (hk h a).2 := by omega
  have hK1 := zSt_K hK g1 h1 h2 (by omega)
  rw [hk1] at hK1
  have hei : (zWl ρ κ h)[a - 55]? = some (ca ρ a, .inl (κ a, (hk h a).2, .inl (fun k => if k < (hk h a).2 then vi32 (hm h a k) else 0))) := by
    rw [he]; unfold zarr; rw [if_pos (by omega)]
  show W p l e R s m args below meth c H locs _ _ Qf (F0 m pc ls (.int (Int32.ofInt y) :: .int (Int32.ofInt x) :: ρ a :: S.map (cv ρ)))
  rw [zSt_ref g1 h1 h2]
  refine va_iast hx hb hK1 g1.2.1.1 g1.2.1.2.1 g1.2.2.1 (a - 55) 0 hei rfl i1 d (fun H1 locs1 hP hD hS => ?_)
  have hee : zE ρ κ (hput h a x.toNat (vI y)) a = .inl (κ a, (hk h a).2, .inl (upd (fun k => if k < (hk h a).2 then vi32 (hm h a k) else 0) (Int32.ofInt x).toNatClampNeg (Int32.ofInt y))) := by
    rw [zE_arr (by rw [hk_put]; omega), hk_put]
    unfold zarr
    rw [if_pos (by omega)]
    congr 4
    funext k
    rw [hm_put, i2]
    unfold upd
    by_cases hkx : k = x.toNat
    · subst hkx
      rw [if_pos hj, if_pos ⟨rfl, rfl⟩, if_pos rfl]
      exact rfl
    · simp [hkx]
  rw [← hee] at hP hD
  have hr := g1.2.1.put h1 h2 (v := vI y) (k := x.toNat) (hd1 g4).1 (fun z => by omega) (fun _ => by rw [hk1]; exact ⟨y, rfl⟩) hP hD
  exact k ρ κ H1 locs1 ls (zSt_put g1 h1 hr hS) g2 g3 (tl1 (tl1 (tl1 g4)))
theorem zs_bastore2 (hx : p.tables.exec = Jvm.exec) (hb : c.code = cc) (hK : va_K D zcl [] s) (d : decode cc pc = .ok (.bastore, 1)) (h1 : 55 ≤ a) (hk1 : (hk h a).1 = 2) (hx0 : 0 ≤ x) (hx1 : x < ((hk h a).2 : Int)) (k : ZGo p l e R s m args below meth c Qf D A ρs hc h0 nL (pc + 1) L S (hput h a x.toNat (vI (wb y)))) : ZGo p l e R s m args below meth c Qf D A ρs hc h0 nL pc L (vI y :: vI x :: vA (some a) :: S) h := by
  intro ρ κ H locs ls g1 g2 g3 g4
  have h2 : a < hn h := (hd1 (tl1 (tl1 g4))).1
  obtain ⟨he, hl, hel⟩ := zSt_arr g1 h1 h2 (by omega)
  obtain ⟨i1, i2⟩ := zix hx0 hx1 hl
  have hj : x.toNat < (hk h a).2 := by omega
  have hK1 := zSt_K hK g1 h1 h2 (by omega)
  rw [hk1] at hK1
  have hei : (zWl ρ κ h)[a - 55]? = some (ca ρ a, .inl (κ a, (hk h a).2, .inl (fun k => if k < (hk h a).2 then vi32 (hm h a k) else 0))) := by
    rw [he]; unfold zarr; rw [if_pos (by omega)]
  show W p l e R s m args below meth c H locs _ _ Qf (F0 m pc ls (.int (Int32.ofInt y) :: .int (Int32.ofInt x) :: ρ a :: S.map (cv ρ)))
  rw [zSt_ref g1 h1 h2]
  refine va_bast hx hb hK1 g1.2.1.1 g1.2.1.2.1 g1.2.2.1 (a - 55) 0 hei rfl i1 d (fun H1 locs1 hP hD hS => ?_)
  have hee : zE ρ κ (hput h a x.toNat (vI (wb y))) a = .inl (κ a, (hk h a).2, .inl (upd (fun k => if k < (hk h a).2 then vi32 (hm h a k) else 0) (Int32.ofInt x).toNatClampNeg (vp_nar .byte (Int32.ofInt y)))) := by
    rw [zE_arr (by rw [hk_put]; omega), hk_put]
    unfold zarr
    rw [if_pos (by omega)]
    congr 4
    funext k
    rw [hm_put, i2]
    unfold upd
    by_cases hkx : k = x.toNat
    · subst hkx
      rw [if_pos hj, if_pos ⟨rfl, rfl⟩, if_pos rfl]
      exact (cI_b y)
    · simp [hkx]
  rw [← hee] at hP hD
  have hr := g1.2.1.put h1 h2 (v := vI (wb y)) (k := x.toNat) (by have := wb_rng y; exact ⟨by omega, by omega⟩) (fun z => by omega) (fun _ => by rw [hk1]; exact ⟨wb y, rfl, wb_rng y⟩) hP hD
  exact k ρ κ H1 locs1 ls (zSt_put g1 h1 hr hS) g2 g3 (tl1 (tl1 (tl1 g4)))
theorem zs_bastore3 (hx : p.tables.exec = Jvm.exec) (hb : c.code = cc) (hK : va_K D zcl [] s) (d : decode cc pc = .ok (.bastore, 1)) (h1 : 55 ≤ a) (hk1 : (hk h a).1 = 3) (hx0 : 0 ≤ x) (hx1 : x < ((hk h a).2 : Int)) (hy : y = 0 ∨ y = 1) (k : ZGo p l e R s m args below meth c Qf D A ρs hc h0 nL (pc + 1) L S (hput h a x.toNat (vI y))) : ZGo p l e R s m args below meth c Qf D A ρs hc h0 nL pc L (vI y :: vI x :: vA (some a) :: S) h := by
  intro ρ κ H locs ls g1 g2 g3 g4
  have h2 : a < hn h := (hd1 (tl1 (tl1 g4))).1
  obtain ⟨he, hl, hel⟩ := zSt_arr g1 h1 h2 (by omega)
  obtain ⟨i1, i2⟩ := zix hx0 hx1 hl
  have hj : x.toNat < (hk h a).2 := by omega
  have hK1 := zSt_K hK g1 h1 h2 (by omega)
  rw [hk1] at hK1
  have hei : (zWl ρ κ h)[a - 55]? = some (ca ρ a, .inl (κ a, (hk h a).2, .inl (fun k => if k < (hk h a).2 then vi32 (hm h a k) else 0))) := by
    rw [he]; unfold zarr; rw [if_pos (by omega)]
  show W p l e R s m args below meth c H locs _ _ Qf (F0 m pc ls (.int (Int32.ofInt y) :: .int (Int32.ofInt x) :: ρ a :: S.map (cv ρ)))
  rw [zSt_ref g1 h1 h2]
  refine va_zast hx hb hK1 g1.2.1.1 g1.2.1.2.1 g1.2.2.1 (a - 55) 0 hei rfl i1 d (fun H1 locs1 hP hD hS => ?_)
  have hee : zE ρ κ (hput h a x.toNat (vI y)) a = .inl (κ a, (hk h a).2, .inl (upd (fun k => if k < (hk h a).2 then vi32 (hm h a k) else 0) (Int32.ofInt x).toNatClampNeg (vp_nar .boolean (Int32.ofInt y)))) := by
    rw [zE_arr (by rw [hk_put]; omega), hk_put]
    unfold zarr
    rw [if_pos (by omega)]
    congr 4
    funext k
    rw [hm_put, i2]
    unfold upd
    by_cases hkx : k = x.toNat
    · subst hkx
      rw [if_pos hj, if_pos ⟨rfl, rfl⟩, if_pos rfl]
      exact (by rcases hy with rfl | rfl <;> rfl)
    · simp [hkx]
  rw [← hee] at hP hD
  have hr := g1.2.1.put h1 h2 (v := vI y) (k := x.toNat) (hd1 g4).1 (fun z => by omega) (fun _ => by rw [hk1]; exact ⟨y, rfl, hy⟩) hP hD
  exact k ρ κ H1 locs1 ls (zSt_put g1 h1 hr hS) g2 g3 (tl1 (tl1 (tl1 g4)))
theorem zs_lastore (hx : p.tables.exec = Jvm.exec) (hb : c.code = cc) (hK : va_K D zcl [] s) (d : decode cc pc = .ok (.lastore, 1)) (h1 : 55 ≤ a) (hk1 : (hk h a).1 = 4) (hx0 : 0 ≤ x) (hx1 : x < ((hk h a).2 : Int)) (k : ZGo p l e R s m args below meth c Qf D A ρs hc h0 nL (pc + 1) L S (hput h a x.toNat (vL y))) : ZGo p l e R s m args below meth c Qf D A ρs hc h0 nL pc L (vL y :: vI x :: vA (some a) :: S) h := by
  intro ρ κ H locs ls g1 g2 g3 g4
  have h2 : a < hn h := (hd1 (tl1 (tl1 g4))).1
  obtain ⟨he, hl, hel⟩ := zSt_arr g1 h1 h2 (by omega)
  obtain ⟨i1, i2⟩ := zix hx0 hx1 hl
  have hj : x.toNat < (hk h a).2 := by omega
  have hK1 := zSt_K hK g1 h1 h2 (by omega)
  rw [hk1] at hK1
  have hei : (zWl ρ κ h)[a - 55]? = some (ca ρ a, .inl (κ a, (hk h a).2, .inr (.inl (fun k => if k < (hk h a).2 then vi64 (hm h a k) else 0)))) := by
    rw [he]; unfold zarr; rw [if_neg (by omega), if_pos hk1]
  show W p l e R s m args below meth c H locs _ _ Qf (F0 m pc ls (.long (Int64.ofInt y) :: .int (Int32.ofInt x) :: ρ a :: S.map (cv ρ)))
  rw [zSt_ref g1 h1 h2]
  refine va_last hx hb hK1 g1.2.1.1 g1.2.1.2.1 g1.2.2.1 (a - 55) 0 hei rfl i1 d (fun H1 locs1 hP hD hS => ?_)
  have hee : zE ρ κ (hput h a x.toNat (vL y)) a = .inl (κ a, (hk h a).2, .inr (.inl (vp_updL (fun k => if k < (hk h a).2 then vi64 (hm h a k) else 0) (Int32.ofInt x).toNatClampNeg (Int64.ofInt y)))) := by
    rw [zE_arr (by rw [hk_put]; omega), hk_put]
    unfold zarr
    rw [if_neg (by omega), if_pos hk1]
    congr 4
    congr 1
    funext k
    rw [hm_put, i2]
    unfold vp_updL
    by_cases hkx : k = x.toNat
    · subst hkx
      rw [if_pos hj, if_pos ⟨rfl, rfl⟩, if_pos rfl]
      exact rfl
    · simp [hkx]
  rw [← hee] at hP hD
  have hr := g1.2.1.put h1 h2 (v := vL y) (k := x.toNat) (hd1 g4).1 (fun z => by omega) (fun _ => by rw [hk1]; exact ⟨y, rfl⟩) hP hD
  exact k ρ κ H1 locs1 ls (zSt_put g1 h1 hr hS) g2 g3 (tl1 (tl1 (tl1 g4)))
end
