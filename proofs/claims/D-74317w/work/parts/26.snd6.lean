/-! Going on: fields, new objects, arrays. -/
theorem zhas_mem {f : Nat} {kd : Nat × Nat} (h : zhas f kd = true) : f ∈ zOF kd.1 := by
  unfold zhas at h
  exact List.contains_iff_mem.mp h
theorem zhas_ge {f : Nat} {kd : Nat × Nat} (h : zhas f kd = true) : 100 ≤ kd.1 ∧ kd.1 ≤ 119 := by
  have h1 := zhas_mem h
  have key : ∀ (l : List (Nat × List Nat)) (k : Nat), f ∈ zlk [] k l → ∃ e, e ∈ l ∧ e.1 = k ∧ f ∈ e.2 := by
    intro l
    induction l with
    | nil => intro k hk; cases hk
    | cons e l ih =>
      intro k hk
      unfold zlk at hk
      cases hb : Nat.beq e.1 k with
      | true =>
        rw [hb] at hk
        exact ⟨e, List.mem_cons_self, Nat.eq_of_beq_eq_true hb, hk⟩
      | false =>
        rw [hb] at hk
        obtain ⟨e', h1, h2⟩ := ih k hk
        exact ⟨e', List.mem_cons_of_mem _ h1, h2⟩
  obtain ⟨e, he, hek, hef⟩ := key _ _ h1
  have hall : zOF_t.all (fun e => e.2.isEmpty || (decide (100 ≤ e.1) && decide (e.1 ≤ 119))) = true := by decide +kernel
  have := List.all_eq_true.mp hall e he
  rw [Bool.or_eq_true, Bool.and_eq_true, decide_eq_true_eq, decide_eq_true_eq] at this
  rcases this with z | z
  · rw [List.isEmpty_iff] at z
    rw [z] at hef; cases hef
  · rw [hek] at z; exact z
section
variable {p : Program} {l : Launch} {e : Env} {R : Room} {s : State} {m : MethodId} {args : Array Value} {below : List Frame} {meth : Method} {c : Code} {Qf : State → Prop} {D : va_G} {A : Nat → Prop} {ρs : Nat → Value} {hc h0 : MH} {nL pc nx : Nat} {L S : List V} {h : MH} {cc : ByteArray} {x y : Int} {r q : Option Nat} {a b : Nat}
/-- a reference that isn't a constant is an address -/
theorem zSt_ref {κ : Nat → ClassId} {ρ : Nat → Value} {H : Heap} {locs : List Loc} (g : zSt D A ρs hc h0 s ρ κ h H locs) (h1 : 55 ≤ a) (h2 : a < hn h) : ρ a = .ref (ca ρ a) := g.2.1.2.2.2.1 a h1 h2
theorem zSt_get {κ : Nat → ClassId} {ρ : Nat → Value} {H : Heap} {locs : List Loc} (g : zSt D A ρs hc h0 s ρ κ h H locs) (h1 : 55 ≤ a) (h2 : a < hn h) : (zWl ρ κ h)[a - 55]? = some (ca ρ a, zE ρ κ h a) := zWl_get h1 h2
/-- getfield of an object that is no constant; the link by one of two words -/
theorem zs_getf (hx : p.tables.exec = Jvm.exec) (hb : c.code = cc) {own ref : String} {i f : Nat} (hown : s.vm.findClass own = some m.cls) (hts : ∀ w ∈ lw_all, w.before args s = true) (hK : va_K D zcl [] s) (hlink : (Cond.fieldLink own i ref (zFN f).2.1 (zFN f).2.2.1).before args s = true ∨ ∃ host, (Cond.fieldLinkNest own i ref (zFN f).2.1 (zFN f).2.2.1 host).before args s = true) (hsame : ∀ x, s.fieldFound? (zFN f).1 (zFN f).2.1 (zFN f).2.2.1 = some x → s.fieldFound? ref (zFN f).2.1 (zFN f).2.2.1 = some x) (d : decode cc pc = .ok (.getfield i, 3)) (h1 : 55 ≤ a) (hh : zhas f (hk h a) = true) (k : ZGo p l e R s m args below meth c Qf D A ρs hc h0 nL (pc + 3) L (hm h a f :: S) h) : ZGo p l e R s m args below meth c Qf D A ρs hc h0 nL pc L (vA (some a) :: S) h := by
  intro ρ κ H locs ls g1 g2 g3 g4
  have h2 : a < hn h := (hd1 g4).1
  have hge := zhas_ge hh
  obtain ⟨C, T, N, ty, hC⟩ := zC_all hge.1 hge.2
  obtain ⟨j, hj⟩ := List.getElem?_of_mem (zhas_mem hh)
  have hjN : j < N := by rw [← hC.2.1]; exact (List.getElem?_eq_some_iff.mp hj).1
  have hT := (hC.2.2.2.2.2.1 j f hj).1
  have he := zSt_get g1 h1 h2
  rw [zE_obj hge.1] at he
  have hv : ((zOF (hk h a).1).map (fun f => cv ρ (hm h a f)))[j]? = some (cv ρ (hm h a f)) := by rw [List.getElem?_map, hj]; rfl
  have hok1 : vok (hn h) (hm h a f) ∧ hm h a f ≠ vJ := by
    rcases g1.2.1.2.2.1.2 a h1 h2 with ⟨c1, c2, c3⟩ | ⟨c1, c2, -⟩
    · have := c3 f (zhas_mem hh)
      refine ⟨this.1, fun z => ?_⟩
      rw [z] at this
      exact Bool.noConfusion (show false = true from this.2)
    · omega
  have kk := k ρ κ H locs ls g1 g2 g3 (all1 hok1 (tl1 g4))
  show W p l e R s m args below meth c H locs _ _ Qf (F0 m pc ls (ρ a :: S.map (cv ρ)))
  rw [zSt_ref g1 h1 h2]
  rcases hlink with hlink | ⟨host, hlink⟩
  · exact va_get (D := D) (ci := (hk h a).1 - 100) (v := cv ρ (hm h a f)) (C := C) (T := T) (N := N) hx hb hts hC.2.2.1 hown hK g1.2.1.1 (a - 55) he hC.1 j hjN (by rw [hT]; exact hlink) (by rw [hT]; exact hsame) hv d kk
  · exact va_getN (D := D) (ci := (hk h a).1 - 100) (v := cv ρ (hm h a f)) (C := C) (T := T) (N := N) hx hb hts hC.2.2.1 hown hK g1.2.1.1 (a - 55) he hC.1 j hjN (by rw [hT]; exact hlink) (by rw [hT]; exact hsame) hv d kk
/-- what a write leaves -/
theorem zSt_put {κ : Nat → ClassId} {ρ : Nat → Value} {H H1 : Heap} {locs locs1 : List Loc} {k : Nat} {v : V} (g : zSt D A ρs hc h0 s ρ κ h H locs) (h1 : 55 ≤ a) (hr : zRel D ρ κ A (hput h a k v) s H1) (hS : va_S A s.heap H1 locs1) : zSt D A ρs hc h0 s ρ κ (hput h a k v) H1 locs1 :=
  ⟨g.1, hr, hS, fun b hb => ⟨(g.2.2.2.1 b hb).1, by
    rw [← (g.2.2.2.1 b hb).2]
    funext j
    rw [hm_put, if_neg (fun z => by omega)]⟩, g.2.2.2.2.1, g.2.2.2.2.2⟩
theorem zs_putf (hx : p.tables.exec = Jvm.exec) (hb : c.code = cc) {own ref : String} {i f : Nat} {v : V} (hown : s.vm.findClass own = some m.cls) (hts : ∀ w ∈ lw_all, w.before args s = true) (hK : va_K D zcl [] s) (hlink : ((Cond.fieldLink own i ref (zFN f).2.1 (zFN f).2.2.1).before args s = true ∧ ((zFN f).2.2.2 = false ∨ ((zFN f).2.2.2 = true ∧ meth.name = "<init>" ∧ (zFN f).1 = own))) ∨ ((zFN f).2.2.2 = false ∧ ∃ host, (Cond.fieldLinkNest own i ref (zFN f).2.1 (zFN f).2.2.1 host).before args s = true)) (hsame : ∀ x, s.fieldFound? (zFN f).1 (zFN f).2.1 (zFN f).2.2.1 = some x → s.fieldFound? ref (zFN f).2.1 (zFN f).2.2.1 = some x) (d : decode cc pc = .ok (.putfield i, 3)) (h1 : 55 ≤ a) (hh : zhas f (hk h a) = true) (hok1 : zok (zFT f) v = true) (k : ZGo p l e R s m args below meth c Qf D A ρs hc h0 nL (pc + 3) L S (hput h a f v)) : ZGo p l e R s m args below meth c Qf D A ρs hc h0 nL pc L (v :: vA (some a) :: S) h := by
  intro ρ κ H locs ls g1 g2 g3 g4
  have h2 : a < hn h := (hd1 (tl1 g4)).1
  have hge := zhas_ge hh
  obtain ⟨C, T, N, ty, hC⟩ := zC_all hge.1 hge.2
  obtain ⟨j, hj⟩ := List.getElem?_of_mem (zhas_mem hh)
  have hjN : j < N := by rw [← hC.2.1]; exact (List.getElem?_eq_some_iff.mp hj).1
  obtain ⟨hT, hty, -⟩ := hC.2.2.2.2.2.1 j f hj
  have he := zSt_get g1 h1 h2
  rw [zE_obj hge.1] at he
  have hfit := zfit g1.2.2.2.2.2 (hd1 g4).1 (ty := ty j) (by rw [hty]; exact hok1)
  have hl : j < ((zOF (hk h a).1).map (fun f => cv ρ (hm h a f))).length := by rw [List.length_map, hC.2.1]; exact hjN
  have fin : ∀ (H1 : Heap) (locs1 : List Loc), va_P D zcl ((zWl ρ κ h).set (a - 55) (ca ρ a, .inr ((hk h a).1 - 100, ((zOF (hk h a).1).map (fun f => cv ρ (hm h a f))).set j (cv ρ v)))) H1 → va_D A ((zWl ρ κ h).set (a - 55) (ca ρ a, .inr ((hk h a).1 - 100, ((zOF (hk h a).1).map (fun f => cv ρ (hm h a f))).set j (cv ρ v)))) → va_S A s.heap H1 locs1 → W p l e R s m args below meth c H1 locs1 (hn h - hn h0) (hs h - hs h0) Qf (F0 m (pc + 3) ls (S.map (cv ρ))) := by
    intro H1 locs1 hP hD hS
    rw [← zE_putf (κ := κ) hge.1 (by omega) hj] at hP hD
    have hr := g1.2.1.put h1 h2 (hd1 g4).1 (fun _ => hok1) (fun z => by omega) hP hD
    exact k ρ κ H1 locs1 ls (zSt_put g1 h1 hr hS) g2 g3 (tl1 (tl1 g4))
  show W p l e R s m args below meth c H locs _ _ Qf (F0 m pc ls (cv ρ v :: ρ a :: S.map (cv ρ)))
  rw [zSt_ref g1 h1 h2]
  rcases hlink with ⟨hlink, hf | ⟨hf, hin, hdecl⟩⟩ | ⟨hf, host, hlink⟩
  · exact va_put (D := D) (ci := (hk h a).1 - 100) (v := cv ρ v) (ty := ty j) (C := C) (T := T) (N := N) hx hb hts hC.2.2.1 ty hC.2.2.2.1 hC.2.2.2.2.1 hown hK g1.2.1.1 g1.2.1.2.1 g1.2.2.1 (a - 55) he hC.1 j hjN (by rw [hT]; exact hlink) (by rw [hT]; exact hsame) (by rw [hT]; exact hf) (hC.2.2.2.1 j hjN) hfit.1 hfit.2 hl d fin
  · exact va_putF (D := D) (ci := (hk h a).1 - 100) (v := cv ρ v) (ty := ty j) (C := C) (T := T) (N := N) hx hb hts hC.2.2.1 ty hC.2.2.2.1 hC.2.2.2.2.1 hown hK g1.2.1.1 g1.2.1.2.1 g1.2.2.1 (a - 55) he hC.1 j hjN (by rw [hT]; exact hlink) (by rw [hT]; exact hsame) (by rw [hT]; exact hf) hin (by rw [hT]; exact hdecl) (hC.2.2.2.1 j hjN) hfit.1 hfit.2 hl d fin
  · exact va_putN (D := D) (ci := (hk h a).1 - 100) (v := cv ρ v) (ty := ty j) (C := C) (T := T) (N := N) hx hb hts hC.2.2.1 ty hC.2.2.2.1 hC.2.2.2.2.1 hown hK g1.2.1.1 g1.2.1.2.1 g1.2.2.1 (a - 55) he hC.1 j hjN (by rw [hT]; exact hlink) (by rw [hT]; exact hsame) (by rw [hT]; exact hf) (hC.2.2.2.1 j hjN) hfit.1 hfit.2 hl d fin
/-- what a new cell leaves -/
theorem zSt_new {κ : Nat → ClassId} {ρ : Nat → Value} {H H1 : Heap} {locs locs1 : List Loc} {kd : Nat × Nat} {sl x : Nat} {f : Nat → V} {cA : ClassId} (g : zSt D A ρs hc h0 s ρ κ h H locs) (hr : zRel D (zup ρ (hn h) (.ref x)) (zup κ (hn h) cA) A (hnew h kd sl f) s H1) (hS : va_S A s.heap H1 locs1) : zSt D A ρs hc h0 s (zup ρ (hn h) (.ref x)) (zup κ (hn h) cA) (hnew h kd sl f) H1 locs1 := by
  have h55 := g.2.1.2.2.1.1
  refine ⟨fun b hb => ?_, hr, hS, fun b hb => ?_, ⟨by rw [hn_new]; have := g.2.2.2.2.1.1; omega, by rw [hs_new]; have := g.2.2.2.2.1.2; omega⟩, fun b hb => ?_⟩
  · rw [zup_n _ _ (by have := g.2.2.2.2.1.1; omega)]; exact g.1 b hb
  · refine ⟨?_, ?_⟩
    · rw [hk_new, if_neg (by omega)]; exact (g.2.2.2.1 b hb).1
    · rw [← (g.2.2.2.1 b hb).2]
      funext j
      rw [hm_new, if_neg (by omega)]
  · rw [hn_new] at hb
    by_cases hbn : b = hn h
    · subst hbn; rw [zup_s]; exact Or.inr ⟨_, rfl⟩
    · rw [zup_n _ _ hbn]; exact g.2.2.2.2.2 b (by omega)
theorem zmap_ext {ρ : Nat → Value} {n : Nat} {v : Value} (hS : ∀ w ∈ S, vok n w) : S.map (cv (zup ρ n v)) = S.map (cv ρ) := List.map_congr_left fun w hw => cv_ext (fun b hb => zup_n _ _ (by omega)) (hS w hw)
theorem zdef {ty : FieldType} {f : Nat} (h : zsort ty = zFT f) (h9 : zFT f ≠ 9) : ∀ ρ : Nat → Value, defaultValue ty = cv ρ (zdf f) ∧ zok (zFT f) (zdf f) = true ∧ ∀ n, vok n (zdf f) := by
  intro ρ
  unfold zdf
  rw [← h] at h9 ⊢
  cases ty <;> first | exact ⟨rfl, rfl, fun n => ⟨by decide, by decide⟩⟩ | exact ⟨rfl, rfl, fun n => trivial⟩ | exact absurd rfl h9
theorem zs_new (hx : p.tables.exec = Jvm.exec) (hb : c.code = cc) {own : String} {i k0 : Nat} (hown : s.vm.findClass own = some m.cls) (hts : ∀ w ∈ lw_all, w.before args s = true) (hK : va_K D zcl [] s) (hA : ∀ q, s.heap.size ≤ q → A q) (h1 : 100 ≤ k0) (h2 : k0 ≤ 119) (hlink : (Cond.classLink own i (zcn (k0 - 100))).before args s = true) (hsl : zSL k0 = (zOF k0).length) (hR1 : hn h - hn h0 + 1 ≤ R.cells) (hR2 : hs h - hs h0 + zSL k0 ≤ R.slots) (d : decode cc pc = .ok (.new i, 3)) (k : ZGo p l e R s m args below meth c Qf D A ρs hc h0 nL (pc + 3) L (vA (some (hn h)) :: S) (hnew h (k0, 0) (zSL k0) zdf)) : ZGo p l e R s m args below meth c Qf D A ρs hc h0 nL pc L S h := by
  intro ρ κ H locs ls g1 g2 g3 g4
  obtain ⟨C, T, N, ty, hC⟩ := zC_all h1 h2
  have hcn : zcn (k0 - 100) = C := by unfold zcn; rw [hC.1]
  rw [hcn] at hlink
  have hN : zSL k0 = N := by rw [hsl, hC.2.1]
  rw [hN] at hR2
  have hf := fun j (hj : j < N) => hC.2.2.2.2.2.1 j _ (List.getElem?_eq_getElem (l := zOF k0) (by rw [hC.2.1]; exact hj))
  refine va_new (D := D) (ci := k0 - 100) (fs := (zOF k0).map (fun f => cv ρ (zdf f))) (C := C) (T := T) (N := N) hx hb hts hC.2.2.1 ty hC.2.2.2.1 hown hlink (hts _ hC.2.2.2.2.2.2.1) (hts _ hC.2.2.2.2.2.2.2) hK g1.2.1.1 g1.2.1.2.1 g1.2.2.1 hA hC.1 (fun j hj => ?_) hR1 hR2 d (fun q H1 hP hD hS => ?_)
  · have hj' : j < (zOF k0).length := by rw [hC.2.1]; exact hj
    unfold vp_V
    rw [List.getD_eq_getElem?_getD, List.getElem?_map, List.getElem?_eq_getElem hj']
    exact (zdef (hf j hj).2.1 (hf j hj).2.2 ρ).1
  · have hfs : ∀ f, f ∈ zOF k0 → zok (zFT f) (zdf f) = true ∧ ∀ n, vok n (zdf f) := by
      intro f hf0
      obtain ⟨j, hj⟩ := List.getElem?_of_mem hf0
      exact (zdef (hC.2.2.2.2.2.1 j f hj).2.1 (hC.2.2.2.2.2.1 j f hj).2.2 ρ).2
    have hee : zE (zup ρ (hn h) (.ref q)) (zup κ (hn h) 0) (hnew h (k0, 0) (zSL k0) zdf) (hn h) = .inr (k0 - 100, (zOF k0).map (fun f => cv ρ (zdf f))) := by
      have ek : hk (hnew h (k0, 0) (zSL k0) zdf) (hn h) = (k0, 0) := by rw [hk_new, if_pos rfl]
      rw [zE_obj (by rw [ek]; exact h1), ek]
      congr 2
      apply List.map_congr_left
      intro f hf0
      rw [hm_new, if_pos rfl]
      exact cv_ext (n := 0) (fun b hb => absurd hb (by omega)) ((hfs f hf0).2 0)
    rw [← hee] at hP hD
    have hr := g1.2.1.new (U := s) (Or.inl ⟨h1, by show k0 ≤ 123; omega, fun f hf0 => ⟨(hfs f hf0).2 _, (hfs f hf0).1⟩⟩) (fun z => by have z : k0 ≤ 7 := z; omega) hP hD
    have kk := k _ _ H1 locs ls (zSt_new g1 hr hS) (zLoc_ext g2 (fun b hb => zup_n _ _ (by omega)) g3) (fun v hv => vok_mono (Nat.le_succ _) (g3 v hv)) (all1 (vok_a (fun b z => by cases z; rw [hn_new]; omega)) (fun w hw => ⟨vok_mono (Nat.le_succ _) (g4 w hw).1, (g4 w hw).2⟩))
    rw [hn_new, hs_new] at kk
    have e1 : hn h + 1 - hn h0 = hn h - hn h0 + 1 := by have := g1.2.2.2.2.1.1; omega
    have e2 : hs h + zSL k0 - hs h0 = hs h - hs h0 + N := by have := g1.2.2.2.2.1.2; omega
    rw [e1, e2] at kk
    have kk : W p l e R s m args below meth c H1 locs (hn h - hn h0 + 1) (hs h - hs h0 + N) Qf (F0 m (pc + 3) ls (zup ρ (hn h) (.ref q) (hn h) :: S.map (cv (zup ρ (hn h) (.ref q))))) := kk
    rw [zup_s, zmap_ext (fun w hw => (g4 w hw).1)] at kk
    exact kk
end
