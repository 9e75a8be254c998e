/-! Going on: locals, the stack, branches. -/
theorem zc_ne (x y : Int) : zcmp .ne x y = true ↔ ¬ x = y := by simp [zcmp]
theorem zc_ge (x y : Int) : zcmp .ge x y = true ↔ y ≤ x := by simp [zcmp]
theorem zc_le (x y : Int) : zcmp .le x y = true ↔ x ≤ y := by simp [zcmp]
section
variable {p : Program} {l : Launch} {e : Env} {R : Room} {s : State} {m : MethodId} {args : Array Value} {below : List Frame} {meth : Method} {c : Code} {Qf : State → Prop} {D : va_G} {A : Nat → Prop} {ρs : Nat → Value} {hc h0 : MH} {nL pc nx : Nat} {L S : List V} {h : MH} {cc : ByteArray} {x y : Int} {r q : Option Nat} {a b : Nat}
theorem zs_iload (hx : p.tables.exec = Jvm.exec) (hb : c.code = cc) {i : Nat} (d : decode cc pc = .ok (.iload i, 2)) (hl : L[i]? = some (vI x)) (k : ZGo p l e R s m args below meth c Qf D A ρs hc h0 nL (pc + 2) L (vI x :: S) h) : ZGo p l e R s m args below meth c Qf D A ρs hc h0 nL pc L S h := by
  intro ρ κ H locs ls g1 g2 g3 g4
  have hv := g3 _ (List.mem_of_getElem? hl)
  have ha := zLoc_at g2 hl rfl
  have kk := k ρ κ H locs ls g1 g2 g3 (all1 ⟨hv, fun z => by cases z⟩ g4)
  exact lv_iload hx hb d ha kk
theorem zs_iload_n (hx : p.tables.exec = Jvm.exec) (hb : c.code = cc) {j : Fin 4} {i : Nat} (d : decode cc pc = .ok (.iload_n j, 1)) (hi : (j : Nat) = i) (hl : L[i]? = some (vI x)) (k : ZGo p l e R s m args below meth c Qf D A ρs hc h0 nL (pc + 1) L (vI x :: S) h) : ZGo p l e R s m args below meth c Qf D A ρs hc h0 nL pc L S h := by
  intro ρ κ H locs ls g1 g2 g3 g4
  have hv := g3 _ (List.mem_of_getElem? hl)
  have ha := zLoc_at g2 hl rfl
  have kk := k ρ κ H locs ls g1 g2 g3 (all1 ⟨hv, fun z => by cases z⟩ g4)
  exact lv_iload_n hx hb d hi ha kk
theorem zs_aload (hx : p.tables.exec = Jvm.exec) (hb : c.code = cc) {i : Nat} (d : decode cc pc = .ok (.aload i, 2)) (hl : L[i]? = some (vA r)) (k : ZGo p l e R s m args below meth c Qf D A ρs hc h0 nL (pc + 2) L (vA r :: S) h) : ZGo p l e R s m args below meth c Qf D A ρs hc h0 nL pc L S h := by
  intro ρ κ H locs ls g1 g2 g3 g4
  have hv := g3 _ (List.mem_of_getElem? hl)
  have ha := zLoc_at g2 hl rfl
  have kk := k ρ κ H locs ls g1 g2 g3 (all1 ⟨hv, fun z => by cases z⟩ g4)
  rcases r with _ | a
  · exact lv_aloadN hx hb d ha kk
  · rcases g1.2.2.2.2.2 a hv with e0 | ⟨q0, e0⟩
    · have kk : W p l e R s m args below meth c H locs _ _ Qf (F0 m (pc + 2) ls (ρ a :: S.map (cv ρ))) := kk
      have ha : ls[i]? = some (.val (ρ a)) := ha
      rw [e0] at kk ha
      exact lv_aloadN hx hb d ha kk
    · have kk : W p l e R s m args below meth c H locs _ _ Qf (F0 m (pc + 2) ls (ρ a :: S.map (cv ρ))) := kk
      have ha : ls[i]? = some (.val (ρ a)) := ha
      rw [e0] at kk ha
      exact lv_aload hx hb d ha kk
theorem zs_aload_n (hx : p.tables.exec = Jvm.exec) (hb : c.code = cc) {j : Fin 4} {i : Nat} (d : decode cc pc = .ok (.aload_n j, 1)) (hi : (j : Nat) = i) (hl : L[i]? = some (vA r)) (k : ZGo p l e R s m args below meth c Qf D A ρs hc h0 nL (pc + 1) L (vA r :: S) h) : ZGo p l e R s m args below meth c Qf D A ρs hc h0 nL pc L S h := by
  intro ρ κ H locs ls g1 g2 g3 g4
  have hv := g3 _ (List.mem_of_getElem? hl)
  have ha := zLoc_at g2 hl rfl
  have kk := k ρ κ H locs ls g1 g2 g3 (all1 ⟨hv, fun z => by cases z⟩ g4)
  rcases r with _ | a
  · exact lv_aload_nN hx hb d hi ha kk
  · rcases g1.2.2.2.2.2 a hv with e0 | ⟨q0, e0⟩
    · have kk : W p l e R s m args below meth c H locs _ _ Qf (F0 m (pc + 1) ls (ρ a :: S.map (cv ρ))) := kk
      have ha : ls[i]? = some (.val (ρ a)) := ha
      rw [e0] at kk ha
      exact lv_aload_nN hx hb d hi ha kk
    · have kk : W p l e R s m args below meth c H locs _ _ Qf (F0 m (pc + 1) ls (ρ a :: S.map (cv ρ))) := kk
      have ha : ls[i]? = some (.val (ρ a)) := ha
      rw [e0] at kk ha
      exact lv_aload_n hx hb d hi ha kk
theorem zs_lload (hx : p.tables.exec = Jvm.exec) (hb : c.code = cc) {i : Nat} (d : decode cc pc = .ok (.lload i, 2)) (hl : L[i]? = some (vL x)) (hl2 : L[i + 1]? = some vJ) (k : ZGo p l e R s m args below meth c Qf D A ρs hc h0 nL (pc + 2) L (vL x :: S) h) : ZGo p l e R s m args below meth c Qf D A ρs hc h0 nL pc L S h := by
  intro ρ κ H locs ls g1 g2 g3 g4
  have hv := g3 _ (List.mem_of_getElem? hl)
  have ha := zLoc_at g2 hl (by unfold zlv1; simp only [vL]; rw [hl2]; rfl)
  have kk := k ρ κ H locs ls g1 g2 g3 (all1 ⟨hv, fun z => by cases z⟩ g4)
  exact lv_lload hx hb d ha kk
theorem zs_lload_n (hx : p.tables.exec = Jvm.exec) (hb : c.code = cc) {j : Fin 4} {i : Nat} (d : decode cc pc = .ok (.lload_n j, 1)) (hi : (j : Nat) = i) (hl : L[i]? = some (vL x)) (hl2 : L[i + 1]? = some vJ) (k : ZGo p l e R s m args below meth c Qf D A ρs hc h0 nL (pc + 1) L (vL x :: S) h) : ZGo p l e R s m args below meth c Qf D A ρs hc h0 nL pc L S h := by
  intro ρ κ H locs ls g1 g2 g3 g4
  have hv := g3 _ (List.mem_of_getElem? hl)
  have ha := zLoc_at g2 hl (by unfold zlv1; simp only [vL]; rw [hl2]; rfl)
  have kk := k ρ κ H locs ls g1 g2 g3 (all1 ⟨hv, fun z => by cases z⟩ g4)
  exact lv_lload_n hx hb d hi ha kk
theorem zs_istore (hx : p.tables.exec = Jvm.exec) (hb : c.code = cc) {i : Nat} (d : decode cc pc = .ok (.istore i, 2)) (hnn : i < L.length) (k : ZGo p l e R s m args below meth c Qf D A ρs hc h0 nL (pc + 2) (L.set i (vI x)) S h) : ZGo p l e R s m args below meth c Qf D A ρs hc h0 nL pc L (vI x :: S) h := by
  intro ρ κ H locs ls g1 g2 g3 g4
  have hi0 : i < nL := by rw [← g2.1]; exact hnn
  have hmem : ∀ w ∈ L.set i (vI x), vok (hn h) w := fun w hw => by
    rcases List.mem_or_eq_of_mem_set hw with z | z
    · exact g3 w z
    · rw [z]; exact (hd1 g4).1
  exact lv_istore hx hb d g2.2 hi0 rfl (fun ls' hl' => k ρ κ H locs ls' g1 (zLoc_set g2.1 g1.2.2.2.2.2 g3 hi0 (fun z => by cases z) hl' (fun _ z => by cases z)) hmem (tl1 g4))
theorem zs_istore_n (hx : p.tables.exec = Jvm.exec) (hb : c.code = cc) {j : Fin 4} {i : Nat} (d : decode cc pc = .ok (.istore_n j, 1)) (hi : (j : Nat) = i) (hnn : i < L.length) (k : ZGo p l e R s m args below meth c Qf D A ρs hc h0 nL (pc + 1) (L.set i (vI x)) S h) : ZGo p l e R s m args below meth c Qf D A ρs hc h0 nL pc L (vI x :: S) h := by
  intro ρ κ H locs ls g1 g2 g3 g4
  have hi0 : i < nL := by rw [← g2.1]; exact hnn
  have hmem : ∀ w ∈ L.set i (vI x), vok (hn h) w := fun w hw => by
    rcases List.mem_or_eq_of_mem_set hw with z | z
    · exact g3 w z
    · rw [z]; exact (hd1 g4).1
  exact lv_istore_n hx hb d hi g2.2 hi0 rfl (fun ls' hl' => k ρ κ H locs ls' g1 (zLoc_set g2.1 g1.2.2.2.2.2 g3 hi0 (fun z => by cases z) hl' (fun _ z => by cases z)) hmem (tl1 g4))
theorem zs_astore (hx : p.tables.exec = Jvm.exec) (hb : c.code = cc) {i : Nat} (d : decode cc pc = .ok (.astore i, 2)) (hnn : i < L.length) (k : ZGo p l e R s m args below meth c Qf D A ρs hc h0 nL (pc + 2) (L.set i (vA r)) S h) : ZGo p l e R s m args below meth c Qf D A ρs hc h0 nL pc L (vA r :: S) h := by
  intro ρ κ H locs ls g1 g2 g3 g4
  have hi0 : i < nL := by rw [← g2.1]; exact hnn
  have hmem : ∀ w ∈ L.set i (vA r), vok (hn h) w := fun w hw => by
    rcases List.mem_or_eq_of_mem_set hw with z | z
    · exact g3 w z
    · rw [z]; exact (hd1 g4).1
  rcases r with _ | a
  · exact lv_astoreN hx hb d g2.2 hi0 rfl (fun ls' hl' => k ρ κ H locs ls' g1 (zLoc_set g2.1 g1.2.2.2.2.2 g3 hi0 (fun z => by cases z) hl' (fun _ z => by cases z)) hmem (tl1 g4))
  · rcases g1.2.2.2.2.2 a (hd1 g4).1 with e0 | ⟨q0, e0⟩
    · have key : ∀ ls' : Array Slot, lv_has ls' nL ((i, .null) :: (zlp ρ L).filter (fun q => !(q.1 == i) && !(q.1 + 1 == i && q.2.category == 2))) → lv_has ls' nL ((i, cv ρ (vA (some a))) :: (zlp ρ L).filter (fun q => !(q.1 == i) && !(q.1 + 1 == i && q.2.category == 2))) := fun ls' z => by
        rw [show cv ρ (vA (some a)) = ρ a from rfl, e0]; exact z
      show W p l e R s m args below meth c H locs _ _ Qf (F0 m pc ls (ρ a :: S.map (cv ρ)))
      rw [e0]
      exact lv_astoreN hx hb d g2.2 hi0 rfl (fun ls' hl0 => (fun hl' => k ρ κ H locs ls' g1 (zLoc_set g2.1 g1.2.2.2.2.2 g3 hi0 (fun z => by cases z) hl' (fun _ z => by cases z)) hmem (tl1 g4)) (key ls' hl0))
    · have key : ∀ ls' : Array Slot, lv_has ls' nL ((i, .ref q0) :: (zlp ρ L).filter (fun q => !(q.1 == i) && !(q.1 + 1 == i && q.2.category == 2))) → lv_has ls' nL ((i, cv ρ (vA (some a))) :: (zlp ρ L).filter (fun q => !(q.1 == i) && !(q.1 + 1 == i && q.2.category == 2))) := fun ls' z => by
        rw [show cv ρ (vA (some a)) = ρ a from rfl, e0]; exact z
      show W p l e R s m args below meth c H locs _ _ Qf (F0 m pc ls (ρ a :: S.map (cv ρ)))
      rw [e0]
      exact lv_astore hx hb d g2.2 hi0 rfl (fun ls' hl0 => (fun hl' => k ρ κ H locs ls' g1 (zLoc_set g2.1 g1.2.2.2.2.2 g3 hi0 (fun z => by cases z) hl' (fun _ z => by cases z)) hmem (tl1 g4)) (key ls' hl0))
theorem zs_astore_n (hx : p.tables.exec = Jvm.exec) (hb : c.code = cc) {j : Fin 4} {i : Nat} (d : decode cc pc = .ok (.astore_n j, 1)) (hi : (j : Nat) = i) (hnn : i < L.length) (k : ZGo p l e R s m args below meth c Qf D A ρs hc h0 nL (pc + 1) (L.set i (vA r)) S h) : ZGo p l e R s m args below meth c Qf D A ρs hc h0 nL pc L (vA r :: S) h := by
  intro ρ κ H locs ls g1 g2 g3 g4
  have hi0 : i < nL := by rw [← g2.1]; exact hnn
  have hmem : ∀ w ∈ L.set i (vA r), vok (hn h) w := fun w hw => by
    rcases List.mem_or_eq_of_mem_set hw with z | z
    · exact g3 w z
    · rw [z]; exact (hd1 g4).1
  rcases r with _ | a
  · exact lv_astore_nN hx hb d hi g2.2 hi0 rfl (fun ls' hl' => k ρ κ H locs ls' g1 (zLoc_set g2.1 g1.2.2.2.2.2 g3 hi0 (fun z => by cases z) hl' (fun _ z => by cases z)) hmem (tl1 g4))
  · rcases g1.2.2.2.2.2 a (hd1 g4).1 with e0 | ⟨q0, e0⟩
    · have key : ∀ ls' : Array Slot, lv_has ls' nL ((i, .null) :: (zlp ρ L).filter (fun q => !(q.1 == i) && !(q.1 + 1 == i && q.2.category == 2))) → lv_has ls' nL ((i, cv ρ (vA (some a))) :: (zlp ρ L).filter (fun q => !(q.1 == i) && !(q.1 + 1 == i && q.2.category == 2))) := fun ls' z => by
        rw [show cv ρ (vA (some a)) = ρ a from rfl, e0]; exact z
      show W p l e R s m args below meth c H locs _ _ Qf (F0 m pc ls (ρ a :: S.map (cv ρ)))
      rw [e0]
      exact lv_astore_nN hx hb d hi g2.2 hi0 rfl (fun ls' hl0 => (fun hl' => k ρ κ H locs ls' g1 (zLoc_set g2.1 g1.2.2.2.2.2 g3 hi0 (fun z => by cases z) hl' (fun _ z => by cases z)) hmem (tl1 g4)) (key ls' hl0))
    · have key : ∀ ls' : Array Slot, lv_has ls' nL ((i, .ref q0) :: (zlp ρ L).filter (fun q => !(q.1 == i) && !(q.1 + 1 == i && q.2.category == 2))) → lv_has ls' nL ((i, cv ρ (vA (some a))) :: (zlp ρ L).filter (fun q => !(q.1 == i) && !(q.1 + 1 == i && q.2.category == 2))) := fun ls' z => by
        rw [show cv ρ (vA (some a)) = ρ a from rfl, e0]; exact z
      show W p l e R s m args below meth c H locs _ _ Qf (F0 m pc ls (ρ a :: S.map (cv ρ)))
      rw [e0]
      exact lv_astore_n hx hb d hi g2.2 hi0 rfl (fun ls' hl0 => (fun hl' => k ρ κ H locs ls' g1 (zLoc_set g2.1 g1.2.2.2.2.2 g3 hi0 (fun z => by cases z) hl' (fun _ z => by cases z)) hmem (tl1 g4)) (key ls' hl0))
theorem zs_lstore (hx : p.tables.exec = Jvm.exec) (hb : c.code = cc) {i : Nat} (d : decode cc pc = .ok (.lstore i, 2)) (hnn : i + 1 < L.length) (k : ZGo p l e R s m args below meth c Qf D A ρs hc h0 nL (pc + 2) ((L.set i (vL x)).set (i + 1) vJ) S h) : ZGo p l e R s m args below meth c Qf D A ρs hc h0 nL pc L (vL x :: S) h := by
  intro ρ κ H locs ls g1 g2 g3 g4
  have hi0 : i + 1 < nL := by rw [← g2.1]; exact hnn
  have hmem : ∀ w ∈ (L.set i (vL x)).set (i + 1) vJ, vok (hn h) w := fun w hw => by
    rcases List.mem_or_eq_of_mem_set hw with z | z
    · rcases List.mem_or_eq_of_mem_set z with z | z
      · exact g3 w z
      · rw [z]; exact (hd1 g4).1
    · rw [z]; trivial
  exact lv_lstore hx hb d g2.2 hi0 rfl (fun ls' hl' => k ρ κ H locs ls' g1 (zLoc_setL g2.1 g1.2.2.2.2.2 g3 hi0 hl') hmem (tl1 g4))
theorem zs_lstore_n (hx : p.tables.exec = Jvm.exec) (hb : c.code = cc) {j : Fin 4} {i : Nat} (d : decode cc pc = .ok (.lstore_n j, 1)) (hi : (j : Nat) = i) (hnn : i + 1 < L.length) (k : ZGo p l e R s m args below meth c Qf D A ρs hc h0 nL (pc + 1) ((L.set i (vL x)).set (i + 1) vJ) S h) : ZGo p l e R s m args below meth c Qf D A ρs hc h0 nL pc L (vL x :: S) h := by
  intro ρ κ H locs ls g1 g2 g3 g4
  have hi0 : i + 1 < nL := by rw [← g2.1]; exact hnn
  have hmem : ∀ w ∈ (L.set i (vL x)).set (i + 1) vJ, vok (hn h) w := fun w hw => by
    rcases List.mem_or_eq_of_mem_set hw with z | z
    · rcases List.mem_or_eq_of_mem_set z with z | z
      · exact g3 w z
      · rw [z]; exact (hd1 g4).1
    · rw [z]; trivial
  exact lv_lstore_n hx hb d hi g2.2 hi0 rfl (fun ls' hl' => k ρ κ H locs ls' g1 (zLoc_setL g2.1 g1.2.2.2.2.2 g3 hi0 hl') hmem (tl1 g4))
theorem zs_iinc (hx : p.tables.exec = Jvm.exec) (hb : c.code = cc) {i : Nat} {n : Int} (d : decode cc pc = .ok (.iinc i n, 3)) (hl : L[i]? = some (vI x)) (k : ZGo p l e R s m args below meth c Qf D A ρs hc h0 nL (pc + 3) (L.set i (vI (wr (x + n)))) S h) : ZGo p l e R s m args below meth c Qf D A ρs hc h0 nL pc L S h := by
  intro ρ κ H locs ls g1 g2 g3 g4
  have hi0 : i < nL := by rw [← g2.1]; exact (List.getElem?_eq_some_iff.mp hl).1
  have hmem : ∀ w ∈ L.set i (vI (wr (x + n))), vok (hn h) w := fun w hw => by
    rcases List.mem_or_eq_of_mem_set hw with z | z
    · exact g3 w z
    · rw [z]; exact wr_rng _
  obtain ⟨k0, hk0⟩ := List.getElem?_of_mem (zlp_mem (ρ := ρ).mpr ⟨vI x, hl, rfl, rfl⟩ : (i, cv ρ (vI x)) ∈ zlp ρ L)
  refine lv_iinc (k := k0) (x := Int32.ofInt x) (v := Int32.ofInt (wr (x + n))) hx hb d g2.2 hk0 (cI_add x n).symm hi0 rfl (fun ls' hl' => ?_)
  exact k ρ κ H locs ls' g1 (zLoc_set g2.1 g1.2.2.2.2.2 g3 hi0 (fun z => by cases z) hl' (fun _ z => by cases z)) hmem g4
theorem zs_null (hx : p.tables.exec = Jvm.exec) (hb : c.code = cc) (d : decode cc pc = .ok (.aconst_null, 1)) (k : ZGo p l e R s m args below meth c Qf D A ρs hc h0 nL (pc + 1) L (vA none :: S) h) : ZGo p l e R s m args below meth c Qf D A ρs hc h0 nL pc L S h := fun ρ κ H locs ls g1 g2 g3 g4 => lv_null hx hb d (k ρ κ H locs ls g1 g2 g3 (all1 (vok_a (fun _ z => by cases z)) g4))
theorem cat1 {ρ : Nat → Value} {N : Nat} (hρ : ∀ a, a < N → ρ a = .null ∨ ∃ q, ρ a = .ref q) {v : V} (hv : vok N v) (h : ∀ x, v ≠ vL x) : (cv ρ v).category = 1 := by
  rcases v with x | x | (_ | a) | u
  · rfl
  · exact absurd rfl (h x)
  · rfl
  · rcases hρ a hv with e | ⟨q, e⟩
    · rw [show cv ρ (.inr (.inr (.inl (some a)))) = ρ a from rfl, e]; rfl
    · rw [show cv ρ (.inr (.inr (.inl (some a)))) = ρ a from rfl, e]; rfl
  · rfl
theorem zs_dup (hx : p.tables.exec = Jvm.exec) (hb : c.code = cc) {v : V} (hv : ∀ x, v ≠ vL x) (d : decode cc pc = .ok (.dup, 1)) (k : ZGo p l e R s m args below meth c Qf D A ρs hc h0 nL (pc + 1) L (v :: v :: S) h) : ZGo p l e R s m args below meth c Qf D A ρs hc h0 nL pc L (v :: S) h := fun ρ κ H locs ls g1 g2 g3 g4 => lv_dup hx hb d (cat1 g1.2.2.2.2.2 (hd1 g4).1 hv) (k ρ κ H locs ls g1 g2 g3 (all1 (hd1 g4) g4))
theorem zs_dup_x1 (hx : p.tables.exec = Jvm.exec) (hb : c.code = cc) {v w : V} (hv : ∀ x, v ≠ vL x) (hw : ∀ x, w ≠ vL x) (d : decode cc pc = .ok (.dup_x1, 1)) (k : ZGo p l e R s m args below meth c Qf D A ρs hc h0 nL (pc + 1) L (v :: w :: v :: S) h) : ZGo p l e R s m args below meth c Qf D A ρs hc h0 nL pc L (v :: w :: S) h := fun ρ κ H locs ls g1 g2 g3 g4 => lv_dup_x1 hx hb d (cat1 g1.2.2.2.2.2 (hd1 g4).1 hv) (cat1 g1.2.2.2.2.2 (hd1 (tl1 g4)).1 hw) (k ρ κ H locs ls g1 g2 g3 (all1 (hd1 g4) (all1 (hd1 (tl1 g4)) (all1 (hd1 g4) (tl1 (tl1 g4))))))
theorem zs_dup2 (hx : p.tables.exec = Jvm.exec) (hb : c.code = cc) {v w : V} (hv : ∀ x, v ≠ vL x) (hw : ∀ x, w ≠ vL x) (d : decode cc pc = .ok (.dup2, 1)) (k : ZGo p l e R s m args below meth c Qf D A ρs hc h0 nL (pc + 1) L (v :: w :: v :: w :: S) h) : ZGo p l e R s m args below meth c Qf D A ρs hc h0 nL pc L (v :: w :: S) h := fun ρ κ H locs ls g1 g2 g3 g4 => lv_dup2_11 hx hb d (cat1 g1.2.2.2.2.2 (hd1 g4).1 hv) (cat1 g1.2.2.2.2.2 (hd1 (tl1 g4)).1 hw) (k ρ κ H locs ls g1 g2 g3 (all1 (hd1 g4) (all1 (hd1 (tl1 g4)) g4)))
theorem zs_dup2l (hx : p.tables.exec = Jvm.exec) (hb : c.code = cc) (d : decode cc pc = .ok (.dup2, 1)) (k : ZGo p l e R s m args below meth c Qf D A ρs hc h0 nL (pc + 1) L (vL x :: vL x :: S) h) : ZGo p l e R s m args below meth c Qf D A ρs hc h0 nL pc L (vL x :: S) h := fun ρ κ H locs ls g1 g2 g3 g4 => lv_dup2_2 (va := .long (Int64.ofInt x)) hx hb d rfl (k ρ κ H locs ls g1 g2 g3 (all1 (hd1 g4) g4))
theorem zs_pop (hx : p.tables.exec = Jvm.exec) (hb : c.code = cc) {v : V} (hv : ∀ x, v ≠ vL x) (d : decode cc pc = .ok (.pop, 1)) (k : ZGo p l e R s m args below meth c Qf D A ρs hc h0 nL (pc + 1) L S h) : ZGo p l e R s m args below meth c Qf D A ρs hc h0 nL pc L (v :: S) h := fun ρ κ H locs ls g1 g2 g3 g4 => lv_pop hx hb d (cat1 g1.2.2.2.2.2 (hd1 g4).1 hv) (k ρ κ H locs ls g1 g2 g3 (tl1 g4))
theorem zs_goto (hx : p.tables.exec = Jvm.exec) (hb : c.code = cc) {off : Int} {t : Nat} (d : decode cc pc = .ok (.goto off, 3)) (ht : (pc : Int) + off = (t : Int)) (k : ZGo p l e R s m args below meth c Qf D A ρs hc h0 nL t L S h) : ZGo p l e R s m args below meth c Qf D A ρs hc h0 nL pc L S h := fun ρ κ H locs ls g1 g2 g3 g4 => lv_goto hx hb d ht (k ρ κ H locs ls g1 g2 g3 g4)
theorem zs_icmp_eq (hx : p.tables.exec = Jvm.exec) (hb : c.code = cc) {off : Int} {t : Nat} (d : decode cc pc = .ok (.if_icmp .eq off, 3)) (ht : (pc : Int) + off = (t : Int)) (kt : zcmp .eq x y = true → ZGo p l e R s m args below meth c Qf D A ρs hc h0 nL t L S h) (kf : ¬ zcmp .eq x y = true → ZGo p l e R s m args below meth c Qf D A ρs hc h0 nL (pc + 3) L S h) : ZGo p l e R s m args below meth c Qf D A ρs hc h0 nL pc L (vI y :: vI x :: S) h := by
  intro ρ κ H locs ls g1 g2 g3 g4
  have hy1 : -2147483648 ≤ y ∧ y ≤ 2147483647 := (hd1 g4).1
  have hx1 : -2147483648 ≤ x ∧ x ≤ 2147483647 := (hd1 (tl1 g4)).1
  show W p l e R s m args below meth c H locs _ _ Qf (F0 m pc ls (.int (Int32.ofInt y) :: .int (Int32.ofInt x) :: S.map (cv ρ)))
  exact lv_icmp_eq hx hb d ht (fun z => kt ((zc_eq x y).mpr ((c32_eq hx1 hy1).mp z)) ρ κ H locs ls g1 g2 g3 (tl1 (tl1 g4))) (fun z => kf (fun w => z ((c32_eq hx1 hy1).mpr ((zc_eq x y).mp w))) ρ κ H locs ls g1 g2 g3 (tl1 (tl1 g4)))
theorem zs_icmp_ne (hx : p.tables.exec = Jvm.exec) (hb : c.code = cc) {off : Int} {t : Nat} (d : decode cc pc = .ok (.if_icmp .ne off, 3)) (ht : (pc : Int) + off = (t : Int)) (kt : zcmp .ne x y = true → ZGo p l e R s m args below meth c Qf D A ρs hc h0 nL t L S h) (kf : ¬ zcmp .ne x y = true → ZGo p l e R s m args below meth c Qf D A ρs hc h0 nL (pc + 3) L S h) : ZGo p l e R s m args below meth c Qf D A ρs hc h0 nL pc L (vI y :: vI x :: S) h := by
  intro ρ κ H locs ls g1 g2 g3 g4
  have hy1 : -2147483648 ≤ y ∧ y ≤ 2147483647 := (hd1 g4).1
  have hx1 : -2147483648 ≤ x ∧ x ≤ 2147483647 := (hd1 (tl1 g4)).1
  show W p l e R s m args below meth c H locs _ _ Qf (F0 m pc ls (.int (Int32.ofInt y) :: .int (Int32.ofInt x) :: S.map (cv ρ)))
  exact lv_icmp_ne hx hb d ht (fun z => kt ((zc_ne x y).mpr (fun w => z ((c32_eq hx1 hy1).mpr w))) ρ κ H locs ls g1 g2 g3 (tl1 (tl1 g4))) (fun z => kf (fun w => (zc_ne x y).mp w ((c32_eq hx1 hy1).mp z)) ρ κ H locs ls g1 g2 g3 (tl1 (tl1 g4)))
theorem zs_icmp_lt (hx : p.tables.exec = Jvm.exec) (hb : c.code = cc) {off : Int} {t : Nat} (d : decode cc pc = .ok (.if_icmp .lt off, 3)) (ht : (pc : Int) + off = (t : Int)) (kt : zcmp .lt x y = true → ZGo p l e R s m args below meth c Qf D A ρs hc h0 nL t L S h) (kf : ¬ zcmp .lt x y = true → ZGo p l e R s m args below meth c Qf D A ρs hc h0 nL (pc + 3) L S h) : ZGo p l e R s m args below meth c Qf D A ρs hc h0 nL pc L (vI y :: vI x :: S) h := by
  intro ρ κ H locs ls g1 g2 g3 g4
  have hy1 : -2147483648 ≤ y ∧ y ≤ 2147483647 := (hd1 g4).1
  have hx1 : -2147483648 ≤ x ∧ x ≤ 2147483647 := (hd1 (tl1 g4)).1
  show W p l e R s m args below meth c H locs _ _ Qf (F0 m pc ls (.int (Int32.ofInt y) :: .int (Int32.ofInt x) :: S.map (cv ρ)))
  exact lv_icmp_lt hx hb d ht (fun z => kt ((zc_lt x y).mpr ((c32_lt hx1 hy1).mp z)) ρ κ H locs ls g1 g2 g3 (tl1 (tl1 g4))) (fun z => kf (fun w => z ((c32_lt hx1 hy1).mpr ((zc_lt x y).mp w))) ρ κ H locs ls g1 g2 g3 (tl1 (tl1 g4)))
theorem zs_icmp_ge (hx : p.tables.exec = Jvm.exec) (hb : c.code = cc) {off : Int} {t : Nat} (d : decode cc pc = .ok (.if_icmp .ge off, 3)) (ht : (pc : Int) + off = (t : Int)) (kt : zcmp .ge x y = true → ZGo p l e R s m args below meth c Qf D A ρs hc h0 nL t L S h) (kf : ¬ zcmp .ge x y = true → ZGo p l e R s m args below meth c Qf D A ρs hc h0 nL (pc + 3) L S h) : ZGo p l e R s m args below meth c Qf D A ρs hc h0 nL pc L (vI y :: vI x :: S) h := by
  intro ρ κ H locs ls g1 g2 g3 g4
  have hy1 : -2147483648 ≤ y ∧ y ≤ 2147483647 := (hd1 g4).1
  have hx1 : -2147483648 ≤ x ∧ x ≤ 2147483647 := (hd1 (tl1 g4)).1
  show W p l e R s m args below meth c H locs _ _ Qf (F0 m pc ls (.int (Int32.ofInt y) :: .int (Int32.ofInt x) :: S.map (cv ρ)))
  exact lv_icmp_ge hx hb d ht (fun z => kt ((zc_ge x y).mpr ((c32_le hy1 hx1).mp z)) ρ κ H locs ls g1 g2 g3 (tl1 (tl1 g4))) (fun z => kf (fun w => z ((c32_le hy1 hx1).mpr ((zc_ge x y).mp w))) ρ κ H locs ls g1 g2 g3 (tl1 (tl1 g4)))
theorem zs_icmp_gt (hx : p.tables.exec = Jvm.exec) (hb : c.code = cc) {off : Int} {t : Nat} (d : decode cc pc = .ok (.if_icmp .gt off, 3)) (ht : (pc : Int) + off = (t : Int)) (kt : zcmp .gt x y = true → ZGo p l e R s m args below meth c Qf D A ρs hc h0 nL t L S h) (kf : ¬ zcmp .gt x y = true → ZGo p l e R s m args below meth c Qf D A ρs hc h0 nL (pc + 3) L S h) : ZGo p l e R s m args below meth c Qf D A ρs hc h0 nL pc L (vI y :: vI x :: S) h := by
  intro ρ κ H locs ls g1 g2 g3 g4
  have hy1 : -2147483648 ≤ y ∧ y ≤ 2147483647 := (hd1 g4).1
  have hx1 : -2147483648 ≤ x ∧ x ≤ 2147483647 := (hd1 (tl1 g4)).1
  show W p l e R s m args below meth c H locs _ _ Qf (F0 m pc ls (.int (Int32.ofInt y) :: .int (Int32.ofInt x) :: S.map (cv ρ)))
  exact lv_icmp_gt hx hb d ht (fun z => kt ((zc_gt x y).mpr ((c32_lt hy1 hx1).mp z)) ρ κ H locs ls g1 g2 g3 (tl1 (tl1 g4))) (fun z => kf (fun w => z ((c32_lt hy1 hx1).mpr ((zc_gt x y).mp w))) ρ κ H locs ls g1 g2 g3 (tl1 (tl1 g4)))
theorem zs_icmp_le (hx : p.tables.exec = Jvm.exec) (hb : c.code = cc) {off : Int} {t : Nat} (d : decode cc pc = .ok (.if_icmp .le off, 3)) (ht : (pc : Int) + off = (t : Int)) (kt : zcmp .le x y = true → ZGo p l e R s m args below meth c Qf D A ρs hc h0 nL t L S h) (kf : ¬ zcmp .le x y = true → ZGo p l e R s m args below meth c Qf D A ρs hc h0 nL (pc + 3) L S h) : ZGo p l e R s m args below meth c Qf D A ρs hc h0 nL pc L (vI y :: vI x :: S) h := by
  intro ρ κ H locs ls g1 g2 g3 g4
  have hy1 : -2147483648 ≤ y ∧ y ≤ 2147483647 := (hd1 g4).1
  have hx1 : -2147483648 ≤ x ∧ x ≤ 2147483647 := (hd1 (tl1 g4)).1
  show W p l e R s m args below meth c H locs _ _ Qf (F0 m pc ls (.int (Int32.ofInt y) :: .int (Int32.ofInt x) :: S.map (cv ρ)))
  exact lv_icmp_le hx hb d ht (fun z => kt ((zc_le x y).mpr ((c32_le hx1 hy1).mp z)) ρ κ H locs ls g1 g2 g3 (tl1 (tl1 g4))) (fun z => kf (fun w => z ((c32_le hx1 hy1).mpr ((zc_le x y).mp w))) ρ κ H locs ls g1 g2 g3 (tl1 (tl1 g4)))
theorem zs_if_eq (hx : p.tables.exec = Jvm.exec) (hb : c.code = cc) {off : Int} {t : Nat} (d : decode cc pc = .ok (.ifCond .eq off, 3)) (ht : (pc : Int) + off = (t : Int)) (kt : zcmp .eq x 0 = true → ZGo p l e R s m args below meth c Qf D A ρs hc h0 nL t L S h) (kf : ¬ zcmp .eq x 0 = true → ZGo p l e R s m args below meth c Qf D A ρs hc h0 nL (pc + 3) L S h) : ZGo p l e R s m args below meth c Qf D A ρs hc h0 nL pc L (vI x :: S) h := by
  intro ρ κ H locs ls g1 g2 g3 g4
  have hx1 : -2147483648 ≤ x ∧ x ≤ 2147483647 := (hd1 g4).1
  have hy1 : -2147483648 ≤ (0 : Int) ∧ (0 : Int) ≤ 2147483647 := by omega
  show W p l e R s m args below meth c H locs _ _ Qf (F0 m pc ls (.int (Int32.ofInt x) :: S.map (cv ρ)))
  exact lv_if_eq hx hb d ht (fun z => kt ((zc_eq x 0).mpr ((c32_eq hx1 hy1).mp z)) ρ κ H locs ls g1 g2 g3 (tl1 g4)) (fun z => kf (fun w => z ((c32_eq hx1 hy1).mpr ((zc_eq x 0).mp w))) ρ κ H locs ls g1 g2 g3 (tl1 g4))
theorem zs_if_ne (hx : p.tables.exec = Jvm.exec) (hb : c.code = cc) {off : Int} {t : Nat} (d : decode cc pc = .ok (.ifCond .ne off, 3)) (ht : (pc : Int) + off = (t : Int)) (kt : zcmp .ne x 0 = true → ZGo p l e R s m args below meth c Qf D A ρs hc h0 nL t L S h) (kf : ¬ zcmp .ne x 0 = true → ZGo p l e R s m args below meth c Qf D A ρs hc h0 nL (pc + 3) L S h) : ZGo p l e R s m args below meth c Qf D A ρs hc h0 nL pc L (vI x :: S) h := by
  intro ρ κ H locs ls g1 g2 g3 g4
  have hx1 : -2147483648 ≤ x ∧ x ≤ 2147483647 := (hd1 g4).1
  have hy1 : -2147483648 ≤ (0 : Int) ∧ (0 : Int) ≤ 2147483647 := by omega
  show W p l e R s m args below meth c H locs _ _ Qf (F0 m pc ls (.int (Int32.ofInt x) :: S.map (cv ρ)))
  exact lv_if_ne hx hb d ht (fun z => kt ((zc_ne x 0).mpr (fun w => z ((c32_eq hx1 hy1).mpr w))) ρ κ H locs ls g1 g2 g3 (tl1 g4)) (fun z => kf (fun w => (zc_ne x 0).mp w ((c32_eq hx1 hy1).mp z)) ρ κ H locs ls g1 g2 g3 (tl1 g4))
theorem zs_if_lt (hx : p.tables.exec = Jvm.exec) (hb : c.code = cc) {off : Int} {t : Nat} (d : decode cc pc = .ok (.ifCond .lt off, 3)) (ht : (pc : Int) + off = (t : Int)) (kt : zcmp .lt x 0 = true → ZGo p l e R s m args below meth c Qf D A ρs hc h0 nL t L S h) (kf : ¬ zcmp .lt x 0 = true → ZGo p l e R s m args below meth c Qf D A ρs hc h0 nL (pc + 3) L S h) : ZGo p l e R s m args below meth c Qf D A ρs hc h0 nL pc L (vI x :: S) h := by
  intro ρ κ H locs ls g1 g2 g3 g4
  have hx1 : -2147483648 ≤ x ∧ x ≤ 2147483647 := (hd1 g4).1
  have hy1 : -2147483648 ≤ (0 : Int) ∧ (0 : Int) ≤ 2147483647 := by omega
  show W p l e R s m args below meth c H locs _ _ Qf (F0 m pc ls (.int (Int32.ofInt x) :: S.map (cv ρ)))
  exact lv_if_lt hx hb d ht (fun z => kt ((zc_lt x 0).mpr ((c32_lt hx1 hy1).mp z)) ρ κ H locs ls g1 g2 g3 (tl1 g4)) (fun z => kf (fun w => z ((c32_lt hx1 hy1).mpr ((zc_lt x 0).mp w))) ρ κ H locs ls g1 g2 g3 (tl1 g4))
theorem zs_if_ge (hx : p.tables.exec = Jvm.exec) (hb : c.code = cc) {off : Int} {t : Nat} (d : decode cc pc = .ok (.ifCond .ge off, 3)) (ht : (pc : Int) + off = (t : Int)) (kt : zcmp .ge x 0 = true → ZGo p l e R s m args below meth c Qf D A ρs hc h0 nL t L S h) (kf : ¬ zcmp .ge x 0 = true → ZGo p l e R s m args below meth c Qf D A ρs hc h0 nL (pc + 3) L S h) : ZGo p l e R s m args below meth c Qf D A ρs hc h0 nL pc L (vI x :: S) h := by
  intro ρ κ H locs ls g1 g2 g3 g4
  have hx1 : -2147483648 ≤ x ∧ x ≤ 2147483647 := (hd1 g4).1
  have hy1 : -2147483648 ≤ (0 : Int) ∧ (0 : Int) ≤ 2147483647 := by omega
  show W p l e R s m args below meth c H locs _ _ Qf (F0 m pc ls (.int (Int32.ofInt x) :: S.map (cv ρ)))
  exact lv_if_ge hx hb d ht (fun z => kt ((zc_ge x 0).mpr ((c32_le hy1 hx1).mp z)) ρ κ H locs ls g1 g2 g3 (tl1 g4)) (fun z => kf (fun w => z ((c32_le hy1 hx1).mpr ((zc_ge x 0).mp w))) ρ κ H locs ls g1 g2 g3 (tl1 g4))
theorem zs_if_gt (hx : p.tables.exec = Jvm.exec) (hb : c.code = cc) {off : Int} {t : Nat} (d : decode cc pc = .ok (.ifCond .gt off, 3)) (ht : (pc : Int) + off = (t : Int)) (kt : zcmp .gt x 0 = true → ZGo p l e R s m args below meth c Qf D A ρs hc h0 nL t L S h) (kf : ¬ zcmp .gt x 0 = true → ZGo p l e R s m args below meth c Qf D A ρs hc h0 nL (pc + 3) L S h) : ZGo p l e R s m args below meth c Qf D A ρs hc h0 nL pc L (vI x :: S) h := by
  intro ρ κ H locs ls g1 g2 g3 g4
  have hx1 : -2147483648 ≤ x ∧ x ≤ 2147483647 := (hd1 g4).1
  have hy1 : -2147483648 ≤ (0 : Int) ∧ (0 : Int) ≤ 2147483647 := by omega
  show W p l e R s m args below meth c H locs _ _ Qf (F0 m pc ls (.int (Int32.ofInt x) :: S.map (cv ρ)))
  exact lv_if_gt hx hb d ht (fun z => kt ((zc_gt x 0).mpr ((c32_lt hy1 hx1).mp z)) ρ κ H locs ls g1 g2 g3 (tl1 g4)) (fun z => kf (fun w => z ((c32_lt hy1 hx1).mpr ((zc_gt x 0).mp w))) ρ κ H locs ls g1 g2 g3 (tl1 g4))
theorem zs_if_le (hx : p.tables.exec = Jvm.exec) (hb : c.code = cc) {off : Int} {t : Nat} (d : decode cc pc = .ok (.ifCond .le off, 3)) (ht : (pc : Int) + off = (t : Int)) (kt : zcmp .le x 0 = true → ZGo p l e R s m args below meth c Qf D A ρs hc h0 nL t L S h) (kf : ¬ zcmp .le x 0 = true → ZGo p l e R s m args below meth c Qf D A ρs hc h0 nL (pc + 3) L S h) : ZGo p l e R s m args below meth c Qf D A ρs hc h0 nL pc L (vI x :: S) h := by
  intro ρ κ H locs ls g1 g2 g3 g4
  have hx1 : -2147483648 ≤ x ∧ x ≤ 2147483647 := (hd1 g4).1
  have hy1 : -2147483648 ≤ (0 : Int) ∧ (0 : Int) ≤ 2147483647 := by omega
  show W p l e R s m args below meth c H locs _ _ Qf (F0 m pc ls (.int (Int32.ofInt x) :: S.map (cv ρ)))
  exact lv_if_le hx hb d ht (fun z => kt ((zc_le x 0).mpr ((c32_le hx1 hy1).mp z)) ρ κ H locs ls g1 g2 g3 (tl1 g4)) (fun z => kf (fun w => z ((c32_le hx1 hy1).mpr ((zc_le x 0).mp w))) ρ κ H locs ls g1 g2 g3 (tl1 g4))
theorem zs_ifnull_n (hx : p.tables.exec = Jvm.exec) (hb : c.code = cc) {off : Int} {t : Nat} (d : decode cc pc = .ok (.ifnull off, 3)) (ht : (pc : Int) + off = (t : Int)) (k : ZGo p l e R s m args below meth c Qf D A ρs hc h0 nL t L S h) : ZGo p l e R s m args below meth c Qf D A ρs hc h0 nL pc L (vA none :: S) h := fun ρ κ H locs ls g1 g2 g3 g4 => lv_ifnullN hx hb d ht (k ρ κ H locs ls g1 g2 g3 (tl1 g4))
theorem zs_ifnonnull_n (hx : p.tables.exec = Jvm.exec) (hb : c.code = cc) {off : Int} (d : decode cc pc = .ok (.ifnonnull off, 3)) (k : ZGo p l e R s m args below meth c Qf D A ρs hc h0 nL (pc + 3) L S h) : ZGo p l e R s m args below meth c Qf D A ρs hc h0 nL pc L (vA none :: S) h := fun ρ κ H locs ls g1 g2 g3 g4 => lv_ifnonnullN hx hb d (k ρ κ H locs ls g1 g2 g3 (tl1 g4))
theorem zs_ifnull (hx : p.tables.exec = Jvm.exec) (hb : c.code = cc) {off : Int} (d : decode cc pc = .ok (.ifnull off, 3)) (hr : ∀ ρ : Nat → Value, (∀ a, a < hn h0 → ρ a = ρs a) → (∀ a, 55 ≤ a → a < hn h → ρ a = .ref (ca ρ a)) → a < hn h → ∃ q, ρ a = .ref q) (k : ZGo p l e R s m args below meth c Qf D A ρs hc h0 nL (pc + 3) L S h) : ZGo p l e R s m args below meth c Qf D A ρs hc h0 nL pc L (vA (some a) :: S) h := by
  intro ρ κ H locs ls g1 g2 g3 g4
  obtain ⟨q0, e0⟩ := hr ρ g1.1 g1.2.1.2.2.2.1 (hd1 g4).1
  show W p l e R s m args below meth c H locs _ _ Qf (F0 m pc ls (ρ a :: S.map (cv ρ)))
  rw [e0]
  exact lv_ifnull hx hb d (k ρ κ H locs ls g1 g2 g3 (tl1 g4))
theorem zs_ifnonnull (hx : p.tables.exec = Jvm.exec) (hb : c.code = cc) {off : Int} {t : Nat} (d : decode cc pc = .ok (.ifnonnull off, 3)) (ht : (pc : Int) + off = (t : Int)) (hr : ∀ ρ : Nat → Value, (∀ a, a < hn h0 → ρ a = ρs a) → (∀ a, 55 ≤ a → a < hn h → ρ a = .ref (ca ρ a)) → a < hn h → ∃ q, ρ a = .ref q) (k : ZGo p l e R s m args below meth c Qf D A ρs hc h0 nL t L S h) : ZGo p l e R s m args below meth c Qf D A ρs hc h0 nL pc L (vA (some a) :: S) h := by
  intro ρ κ H locs ls g1 g2 g3 g4
  obtain ⟨q0, e0⟩ := hr ρ g1.1 g1.2.1.2.2.2.1 (hd1 g4).1
  show W p l e R s m args below meth c H locs _ _ Qf (F0 m pc ls (ρ a :: S.map (cv ρ)))
  rw [e0]
  exact lv_ifnonnull hx hb d ht (k ρ κ H locs ls g1 g2 g3 (tl1 g4))
end
