/-! Comparisons of references; casts; copies of arrays. -/
section
variable {SR : List (String × Nat × String × Nat)} {p : Program} {l : Launch} {e : Env} {R : Room} {s : State} {m : MethodId} {args : Array Value} {below : List Frame} {meth : Method} {c : Code} {Qf : State → Prop} {D : va_G} {A : Nat → Prop} {ρs : Nat → Value} {hc h0 : MH} {nL pc nx : Nat} {L S : List V} {h : MH} {cc : ByteArray} {x y z : Int} {r q : Option Nat} {a b : Nat}
theorem zSt_rf {κ : Nat → ClassId} {ρ : Nat → Value} {H : Heap} {locs : List Loc} (hC : zCon SR A ρs hc s) (h55 : 55 ≤ hn h0) (g : zSt D A ρs hc h0 s ρ κ h H locs) (h3 : 3 ≤ a) (h2 : a < hn h) : ρ a = .ref (ca ρ a) := by
  rcases Nat.lt_or_ge a 55 with hl | hl
  · rw [zSt_cr hC h55 g h3 hl, ca_agree (zSt_lo h55 g a hl)]
  · exact zSt_ref g hl h2
theorem zSt_inj {κ : Nat → ClassId} {ρ : Nat → Value} {H : Heap} {locs : List Loc} (hC : zCon SR A ρs hc s) (h55 : 55 ≤ hn h0) (g : zSt D A ρs hc h0 s ρ κ h H locs) (h3 : 3 ≤ a) (h3b : 3 ≤ b) (hab : 55 ≤ a ∨ 55 ≤ b) (h2 : a < hn h) (h2b : b < hn h) (he : ca ρ a = ca ρ b) : a = b := by
  have key : ∀ a b, 3 ≤ a → 55 ≤ b → a < hn h → b < hn h → ca ρ a = ca ρ b → a = b := by
    intro a b h3 hb h2 h2b he
    have e2 := zSt_get g hb h2b
    rcases Nat.lt_or_ge a 55 with hl | hl
    · exfalso
      have h4 := g.2.1.2.1.2 _ _ e2
      have h4 : A (ca ρ b) := h4
      rw [← he, ca_agree (zSt_lo h55 g a hl)] at h4
      exact (hC.1 a h3 hl).2 h4
    · have e1 := zSt_get g hl h2
      have := g.2.1.2.1.1 _ _ _ _ e1 e2 he
      omega
  rcases hab with z | z
  · exact (key b a h3b z h2b h2 he.symm).symm
  · exact key a b h3 z h2 h2b he
theorem zSt_cmp {κ : Nat → ClassId} {ρ : Nat → Value} {H : Heap} {locs : List Loc} (hC : zCon SR A ρs hc s) (h55 : 55 ≤ hn h0) (g : zSt D A ρs hc h0 s ρ κ h H locs) (hr : vok (hn h) (vA r)) (hq : vok (hn h) (vA q)) (hz : zac r q = true) : ∃ r1 r2, cv ρ (vA r) = va_rf r1 ∧ cv ρ (vA q) = va_rf r2 ∧ (r1 = r2 ↔ r = q) := by
  have hnull : ∀ a, a < hn h → ρ a = .null ∨ ∃ q, ρ a = .ref q := g.2.2.2.2.2
  cases r with
  | none =>
    cases q with
    | none => exact ⟨none, none, rfl, rfl, Iff.rfl⟩
    | some b =>
      rw [zac_n] at hz
      exact ⟨none, some (ca ρ b), rfl, zSt_rf hC h55 g hz hq, ⟨fun z => (by cases z), fun z => (by cases z)⟩⟩
  | some a =>
    cases q with
    | none =>
      rw [zac_n2] at hz
      exact ⟨some (ca ρ a), none, zSt_rf hC h55 g hz hr, rfl, ⟨fun z => (by cases z), fun z => (by cases z)⟩⟩
    | some b =>
      rw [zac_s] at hz
      rcases hz with rfl | ⟨h3, h3b, hab⟩
      · rcases hnull a hr with e | ⟨t, e⟩
        · exact ⟨none, none, e, e, ⟨fun _ => rfl, fun _ => rfl⟩⟩
        · exact ⟨some t, some t, e, e, ⟨fun _ => rfl, fun _ => rfl⟩⟩
      · refine ⟨some (ca ρ a), some (ca ρ b), zSt_rf hC h55 g h3 hr, zSt_rf hC h55 g h3b hq, ⟨fun z => ?_, fun z => by cases z; rfl⟩⟩
        rw [zSt_inj hC h55 g h3 h3b hab hr hq (Option.some.inj z)]
theorem zs_acmp_eq (hx : p.tables.exec = Jvm.exec) (hb : c.code = cc) (hC : zCon SR A ρs hc s) (h55 : 55 ≤ hn h0) {off : Int} {t : Nat} (d : decode cc pc = .ok (.if_acmp .eq off, 3)) (ht : (pc : Int) + off = (t : Int)) (hz : zac r q = true) (kt : zaq .eq r q = true → ZGo p l e R s m args below meth c Qf D A ρs hc h0 nL t L S h) (kf : ¬ zaq .eq r q = true → ZGo p l e R s m args below meth c Qf D A ρs hc h0 nL (pc + 3) L S h) : ZGo p l e R s m args below meth c Qf D A ρs hc h0 nL pc L (vA q :: vA r :: S) h := by
  intro ρ κ H locs ls g1 g2 g3 g4
  obtain ⟨r1, r2, e1, e2, e3⟩ := zSt_cmp hC h55 g1 (hd1 (tl1 g4)).1 (hd1 g4).1 hz
  show W p l e R s m args below meth c H locs _ _ Qf (F0 m pc ls (cv ρ (vA q) :: cv ρ (vA r) :: S.map (cv ρ)))
  rw [e1, e2]
  rw [zaq_e] at kt kf
  exact lv_acmp_eq hx hb d ht (fun z => kt (e3.mp z) ρ κ H locs ls g1 g2 g3 (tl1 (tl1 g4))) (fun z => kf (fun w => z (e3.mpr w)) ρ κ H locs ls g1 g2 g3 (tl1 (tl1 g4)))
theorem zs_acmp_ne (hx : p.tables.exec = Jvm.exec) (hb : c.code = cc) (hC : zCon SR A ρs hc s) (h55 : 55 ≤ hn h0) {off : Int} {t : Nat} (d : decode cc pc = .ok (.if_acmp .ne off, 3)) (ht : (pc : Int) + off = (t : Int)) (hz : zac r q = true) (kt : zaq .ne r q = true → ZGo p l e R s m args below meth c Qf D A ρs hc h0 nL t L S h) (kf : ¬ zaq .ne r q = true → ZGo p l e R s m args below meth c Qf D A ρs hc h0 nL (pc + 3) L S h) : ZGo p l e R s m args below meth c Qf D A ρs hc h0 nL pc L (vA q :: vA r :: S) h := by
  intro ρ κ H locs ls g1 g2 g3 g4
  obtain ⟨r1, r2, e1, e2, e3⟩ := zSt_cmp hC h55 g1 (hd1 (tl1 g4)).1 (hd1 g4).1 hz
  show W p l e R s m args below meth c H locs _ _ Qf (F0 m pc ls (cv ρ (vA q) :: cv ρ (vA r) :: S.map (cv ρ)))
  rw [e1, e2]
  rw [zaq_n] at kt kf
  exact lv_acmp_ne hx hb d ht (fun z => kt (fun w => z (e3.mpr w)) ρ κ H locs ls g1 g2 g3 (tl1 (tl1 g4))) (fun z => kf (fun w => w (e3.mp z)) ρ κ H locs ls g1 g2 g3 (tl1 (tl1 g4)))
/-- an object's cell, a constant's or not -/
theorem zSt_obj {κ : Nat → ClassId} {ρ : Nat → Value} {H : Heap} {locs : List Loc} (hC : zCon SR A ρs hc s) (h55 : 55 ≤ hn h0) (hK : va_K D zcl [] s) (g : zSt D A ρs hc h0 s ρ κ h H locs) (h2 : a < hn h) (hk0 : 100 ≤ (hk h a).1) : ρ a = .ref (ca ρ a) ∧ (hk h a).1 ≤ 123 ∧ ∃ cell : Cell, H[ca ρ a]? = some cell ∧ cell.vm.isStatics = false ∧ s.vm.findClass (zcn ((hk h a).1 - 100)) = some cell.cls := by
  rcases Nat.lt_or_ge a 55 with hl | hl
  · have hkc := (g.2.2.2.1 a hl).1
    rw [hkc] at hk0 ⊢
    obtain ⟨⟨h3, h119⟩, hO, -⟩ := hC.2.1 a hl hk0
    refine ⟨zSt_rf hC h55 g h3 h2, by omega, ?_⟩
    obtain ⟨cell, c1, c2, c3, -⟩ := hO.kept g.2.2.1.2.1
    rw [ca_agree (zSt_lo h55 g a hl)]
    exact ⟨cell, c1, c2, c3⟩
  · have he := zSt_get g hl h2
    rw [zE_obj hk0] at he
    obtain ⟨r, hr, -⟩ := g.2.1.1 _ _ he
    have h123 : (hk h a).1 ≤ 123 := by
      rcases g.2.1.2.2.1.2 a hl h2 with ⟨-, c2, -⟩ | ⟨-, c2, -⟩ <;> omega
    refine ⟨zSt_ref g hl h2, h123, ?_⟩
    obtain ⟨cell, c1, c2, c3⟩ := va_recv hK g.2.1.1 hr he
    refine ⟨cell, c1, c2, ?_⟩
    have : zcn ((hk h a).1 - 100) = r.1 := by unfold zcn; rw [hr]
    rw [this]; exact c3
/-- a cast that holds by the tables -/
def zCast (s : State) (kd : Nat) (nm : String) : Prop := (100 ≤ kd ∧ (zcn (kd - 100) = nm ∨ va_Nw (.castable (zcn (kd - 100)) nm) s)) ∨ (kd = 2 ∧ nm = "[B") ∨ (kd = 4 ∧ nm = "[J") ∨ (kd = 1 ∧ nm = "[I") ∨ (kd = 5 ∧ nm = "[Ljava/lang/Object;")
theorem zSt_nm {κ : Nat → ClassId} {ρ : Nat → Value} {H : Heap} {locs : List Loc} {nm : String} (g : zSt D A ρs hc h0 s ρ κ h H locs) (hl : 55 ≤ a) (h2 : a < hn h) (hk6 : ((hk h a).1 = 2 ∧ nm = "[B") ∨ ((hk h a).1 = 4 ∧ nm = "[J") ∨ ((hk h a).1 = 1 ∧ nm = "[I") ∨ ((hk h a).1 = 5 ∧ nm = "[Ljava/lang/Object;")) : s.vm.findClass nm = some (κ a) := by
  have hr := (g.2.1.2.2.2.2 a hl h2 (by omega)).2
  unfold zRA at hr
  rw [if_neg (by omega)] at hr
  rcases hk6 with ⟨e, rfl⟩ | ⟨e, rfl⟩ | ⟨e, rfl⟩ | ⟨e, rfl⟩ <;> rw [e] at hr
  · exact va_nm_byte hr
  · exact va_nm_long hr
  · exact va_nm_int hr
  · exact va_nmO hr (by decide +kernel)
theorem zs_cast (hx : p.tables.exec = Jvm.exec) (hb : c.code = cc) {own nm : String} {i : Nat} (hown : s.vm.findClass own = some m.cls) (hC : zCon SR A ρs hc s) (h55 : 55 ≤ hn h0) (hK : va_K D zcl [] s) (hlink : (Cond.classLink own i nm).before args s = true) (hcast : zCast s (hk h a).1 nm) (hlo : 100 ≤ (hk h a).1 ∨ 55 ≤ a) (d : decode cc pc = .ok (.checkcast i, 3))
    (k : ZGo p l e R s m args below meth c Qf D A ρs hc h0 nL (pc + 3) L (vA (some a) :: S) h) : ZGo p l e R s m args below meth c Qf D A ρs hc h0 nL pc L (vA (some a) :: S) h := by
  intro ρ κ H locs ls g1 g2 g3 g4
  have h2 : a < hn h := (hd1 g4).1
  have kk := k ρ κ H locs ls g1 g2 g3 g4
  have kk : W p l e R s m args below meth c H locs _ _ Qf (F0 m (pc + 3) ls (ρ a :: S.map (cv ρ))) := kk
  show W p l e R s m args below meth c H locs _ _ Qf (F0 m pc ls (ρ a :: S.map (cv ρ)))
  rcases hcast with ⟨hk0, hcast⟩ | hk6
  · obtain ⟨e1, -, cell, c1, c2, c3⟩ := zSt_obj hC h55 hK g1 h2 hk0
    rw [e1] at kk ⊢
    rcases hcast with rfl | hcast
    · exact va_castE hx hb hown hlink ⟨cell, c1, c2, c3⟩ d kk
    · exact va_castY hx hb hown hlink hcast ⟨cell, c1, c2, c3⟩ d kk
  · have hl : 55 ≤ a := by omega
    have e1 := zSt_ref g1 hl h2
    have hnm := zSt_nm g1 hl h2 hk6
    obtain ⟨he, -, -⟩ := zSt_arr g1 hl h2 (by omega)
    rw [e1] at kk ⊢
    exact va_castA hx hb hown hlink g1.2.1.1 _ he hnm d kk
theorem zs_inst (hx : p.tables.exec = Jvm.exec) (hb : c.code = cc) {own nm : String} {i : Nat} (hown : s.vm.findClass own = some m.cls) (hC : zCon SR A ρs hc s) (h55 : 55 ≤ hn h0) (hK : va_K D zcl [] s) (hlink : (Cond.classLink own i nm).before args s = true) (hcast : zCast s (hk h a).1 nm) (hlo : 100 ≤ (hk h a).1 ∨ 55 ≤ a) (d : decode cc pc = .ok (.instanceof i, 3))
    (k : ZGo p l e R s m args below meth c Qf D A ρs hc h0 nL (pc + 3) L (vI 1 :: S) h) : ZGo p l e R s m args below meth c Qf D A ρs hc h0 nL pc L (vA (some a) :: S) h := by
  intro ρ κ H locs ls g1 g2 g3 g4
  have h2 : a < hn h := (hd1 g4).1
  have kk := k ρ κ H locs ls g1 g2 g3 (all1 (vok_i (by omega)) (tl1 g4))
  have kk : W p l e R s m args below meth c H locs _ _ Qf (F0 m (pc + 3) ls (.int 1 :: S.map (cv ρ))) := kk
  show W p l e R s m args below meth c H locs _ _ Qf (F0 m pc ls (ρ a :: S.map (cv ρ)))
  rcases hcast with ⟨hk0, hcast⟩ | hk6
  · obtain ⟨e1, -, cell, c1, c2, c3⟩ := zSt_obj hC h55 hK g1 h2 hk0
    rw [e1]
    rcases hcast with rfl | hcast
    · exact va_instE hx hb hown hlink ⟨cell, c1, c2, c3⟩ d kk
    · exact va_instY hx hb hown hlink hcast ⟨cell, c1, c2, c3⟩ d kk
  · have hl : 55 ≤ a := by omega
    have e1 := zSt_ref g1 hl h2
    have hnm := zSt_nm g1 hl h2 hk6
    obtain ⟨he, -, -⟩ := zSt_arr g1 hl h2 (by omega)
    have hc0 := g1.2.1.1 _ _ he
    have hc0 : H[ca ρ a]? = some (vp_cell (κ a) ((hk h a).2, zarr ρ (hk h a).1 (hk h a).2 (hm h a))) := hc0
    rw [e1]
    refine va_instE hx hb hown hlink ⟨_, hc0, ?_, ?_⟩ d kk
    · generalize zarr ρ (hk h a).1 (hk h a).2 (hm h a) = za
      rcases za with f | f | f | f | f <;> rfl
    · rw [hnm]
      congr 1
      generalize zarr ρ (hk h a).1 (hk h a).2 (hm h a) = za
      rcases za with f | f | f | f | f <;> rfl
theorem hok_cpy {h : MH} {a i b j n : Nat} (g : hok h) (ha : a < 55 → ∀ k, k < (hk h a).2 → vok (hn h) (hm h a k) ∧ zelok (hk h a).1 (hm h a k)) (h2 : a < hn h) (hkk : (hk h a).1 = (hk h b).1 ∧ 1 ≤ (hk h a).1 ∧ (hk h a).1 ≤ 7) (h4 : i + n ≤ (hk h a).2) : hok (zcpy h a i b j n) := by
  have hA : ∀ k, k < (hk h a).2 → vok (hn h) (hm h a k) ∧ zelok (hk h a).1 (hm h a k) := by
    rcases Nat.lt_or_ge a 55 with z | z
    · exact ha z
    · rcases g.2 a z h2 with ⟨c1, -⟩ | ⟨-, -, -, c4⟩
      · omega
      · exact c4
  refine ⟨g.1, fun d d1 d2 => ?_⟩
  by_cases hd : d = b
  · subst hd
    rcases g.2 d d1 d2 with ⟨c1, -⟩ | ⟨c1, c2, c3, c4⟩
    · omega
    · refine Or.inr ⟨c1, c2, c3, fun k hk0 => ?_⟩
      have e : hm (zcpy h a i d j n) d k = if d = d ∧ j ≤ k ∧ k < j + n then hm h a (i + (k - j)) else hm h d k := rfl
      rw [e]
      by_cases hk2 : j ≤ k ∧ k < j + n
      · rw [if_pos ⟨rfl, hk2⟩]
        have := hA (i + (k - j)) (by omega)
        rw [hkk.1] at this
        exact this
      · rw [if_neg (fun z => hk2 z.2)]
        exact c4 k hk0
  · have e : hm (zcpy h a i b j n) d = hm h d := by
      funext k
      show (if d = b ∧ j ≤ k ∧ k < j + n then _ else _) = _
      rw [if_neg (fun z => hd z.1)]
      rfl
    have := g.2 d d1 d2
    rw [← e] at this
    exact this
/-- a change of one cell alone -/
theorem zWl_upd {ρ : Nat → Value} {κ : Nat → ClassId} {h h' : MH} {b : Nat} (hn' : hn h' = hn h) (hk' : hk h' = hk h) (hm' : ∀ d, d ≠ b → hm h' d = hm h d) (h1 : 55 ≤ b) (h2 : b < hn h) : zWl ρ κ h' = (zWl ρ κ h).set (b - 55) (ca ρ b, zE ρ κ h' b) := by
  apply List.ext_getElem?
  intro i
  by_cases hi : i < hn h - 55
  · have e1 : (zWl ρ κ h')[i]? = some (ca ρ (55 + i), zE ρ κ h' (55 + i)) := by
      have := zWl_get (ρ := ρ) (κ := κ) (h := h') (a := 55 + i) (by omega) (by omega)
      rwa [show 55 + i - 55 = i by omega] at this
    rw [e1]
    by_cases hia : i = b - 55
    · subst hia
      rw [List.getElem?_set_self (by rw [zWl_len]; exact hi)]
      rw [show 55 + (b - 55) = b by omega]
    · rw [List.getElem?_set_ne (fun z => hia z.symm)]
      have := zWl_get (ρ := ρ) (κ := κ) (h := h) (a := 55 + i) (by omega) (by omega)
      rw [show 55 + i - 55 = i by omega] at this
      rw [this]
      have e2 : zE ρ κ h' (55 + i) = zE ρ κ h (55 + i) := by
        unfold zE
        rw [hk', hm' (55 + i) (by omega)]
      rw [e2]
  · rw [List.getElem?_eq_none (by rw [zWl_len]; omega), List.getElem?_eq_none (by rw [List.length_set, zWl_len]; omega)]
theorem zSt_upd {κ : Nat → ClassId} {ρ : Nat → Value} {H H1 : Heap} {locs locs1 : List Loc} {h' : MH} (g : zSt D A ρs hc h0 s ρ κ h H locs) (hn' : hn h' = hn h) (hs' : hs h' = hs h) (hk' : hk h' = hk h) (hm' : ∀ d, d ≠ b → hm h' d = hm h d) (h1 : 55 ≤ b) (h2 : b < hn h) (hok' : hok h') (hP : va_P D zcl ((zWl ρ κ h).set (b - 55) (ca ρ b, zE ρ κ h' b)) H1) (hD : va_D A ((zWl ρ κ h).set (b - 55) (ca ρ b, zE ρ κ h' b))) (hS : va_S A s.heap H1 locs1) : zSt D A ρs hc h0 s ρ κ h' H1 locs1 := by
  rw [← zWl_upd hn' hk' hm' h1 h2] at hP hD
  refine ⟨g.1, ⟨hP, hD, hok', fun a z1 z2 => g.2.1.2.2.2.1 a z1 (by omega), fun a z1 z2 z3 => ?_⟩, hS, fun d hd => ?_, by rw [hn', hs']; exact g.2.2.2.2.1, fun a ha => g.2.2.2.2.2 a (by omega)⟩
  · rw [hk'] at z3 ⊢
    exact g.2.1.2.2.2.2 a z1 (by omega) z3
  · rw [hk', hm' d (by omega)]
    exact g.2.2.2.1 d hd
theorem zSt_K2 {κ : Nat → ClassId} {ρ : Nat → Value} {H : Heap} {locs : List Loc} (hK : va_K D zcl [] s) (g : zSt D A ρs hc h0 s ρ κ h H locs) (h1 : 55 ≤ a) (h2 : a < hn h) (hk7 : (hk h a).1 ≤ 6) (h1b : 55 ≤ b) (h2b : b < hn h) (hk7b : (hk h b).1 ≤ 6) : va_K D zcl [(κ a, zaty (hk h a).1), (κ b, zaty (hk h b).1)] s := by
  have ka := zSt_K hK g h1 h2 hk7
  have kb := zSt_K hK g h1b h2b hk7b
  refine ⟨hK.1, fun k q hq => ?_⟩
  have hk0 : k < 2 := by
    have := (List.getElem?_eq_some_iff.mp hq).1
    simpa using this
  rcases (show k = 0 ∨ k = 1 by omega) with rfl | rfl
  · exact ka.2 0 q hq
  · exact kb.2 0 q hq
theorem zn0 {x : Int} (h0 : 0 ≤ x) (h1 : x ≤ 2147483647) : (¬ Int32.ofInt x < 0) ∧ (Int32.ofInt x).toNatClampNeg = x.toNat := by
  constructor
  · rw [show (0 : Int32) = Int32.ofInt 0 from rfl, c32_lt (by omega) (by omega)]; omega
  · show (Int32.ofInt x).toInt.toNat = _
    rw [o32 (by omega)]
theorem zfitb {ρ : Nat → Value} {n : Nat} (hρ : ∀ a, a < n → ρ a = .null ∨ ∃ q, ρ a = .ref q) {v : V} (hv : vok n v) (h : zelok 2 v) : fits .byte (.int (vi32 v)) = true := by
  obtain ⟨x, rfl, h1, h2⟩ := h
  exact (zfit hρ hv (ty := .byte) (by show decide (-128 ≤ x ∧ x ≤ 127) = true; exact decide_eq_true ⟨h1, h2⟩)).2
theorem zcpy_i {h : MH} {a b : Nat} {i j n : Nat} (h4 : i + n ≤ (hk h a).2) (h5 : j + n ≤ (hk h b).2) : va_cpy (fun k => if k < (hk h a).2 then vi32 (hm h a k) else 0) (fun k => if k < (hk h b).2 then vi32 (hm h b k) else 0) i j n = fun k => if k < (hk h b).2 then vi32 (hm (zcpy h a i b j n) b k) else 0 := by
  funext k
  have e : hm (zcpy h a i b j n) b k = if b = b ∧ j ≤ k ∧ k < j + n then hm h a (i + (k - j)) else hm h b k := rfl
  rw [e]
  unfold va_cpy
  dsimp only
  by_cases hk2 : j ≤ k ∧ k < j + n
  · rw [if_pos hk2, if_pos (show b = b ∧ j ≤ k ∧ k < j + n from ⟨rfl, hk2⟩), if_pos (show i + (k - j) < (hk h a).2 by omega), if_pos (show k < (hk h b).2 by omega)]
  · rw [if_neg hk2, if_neg (show ¬ (b = b ∧ j ≤ k ∧ k < j + n) from fun z => hk2 z.2)]
theorem zcpy_l {h : MH} {a b : Nat} {i j n : Nat} (h4 : i + n ≤ (hk h a).2) (h5 : j + n ≤ (hk h b).2) : va_cpy (fun k => if k < (hk h a).2 then vi64 (hm h a k) else 0) (fun k => if k < (hk h b).2 then vi64 (hm h b k) else 0) i j n = fun k => if k < (hk h b).2 then vi64 (hm (zcpy h a i b j n) b k) else 0 := by
  funext k
  have e : hm (zcpy h a i b j n) b k = if b = b ∧ j ≤ k ∧ k < j + n then hm h a (i + (k - j)) else hm h b k := rfl
  rw [e]
  unfold va_cpy
  dsimp only
  by_cases hk2 : j ≤ k ∧ k < j + n
  · rw [if_pos hk2, if_pos (show b = b ∧ j ≤ k ∧ k < j + n from ⟨rfl, hk2⟩), if_pos (show i + (k - j) < (hk h a).2 by omega), if_pos (show k < (hk h b).2 by omega)]
  · rw [if_neg hk2, if_neg (show ¬ (b = b ∧ j ≤ k ∧ k < j + n) from fun z => hk2 z.2)]
theorem znfw : nativeFrameWords "java/lang/System" "arraycopy" 5 ≤ 8 := by decide +kernel
theorem zs_copy (hx : p.tables.exec = Jvm.exec) (hb : c.code = cc) (hnl : c.maxLocals = nL) {own : String} {i : Nat} (hown : s.vm.findClass own = some m.cls) (hC : zCon SR A ρs hc s) (h55 : 55 ≤ hn h0) (hK : va_K D zcl [] s) (hlink : (Cond.methodLink own i arraycopyName).before args s = true) (hnat : (Cond.native arraycopyName).before args s = true) (hstat : (Cond.static arraycopyName).before args s = true) (hini : (Cond.initialized "java/lang/System").before args s = true)
    (hkk : (hk h a).1 = (hk h b).1 ∧ ((hk h a).1 = 2 ∨ (hk h a).1 = 4)) (hbd : 0 ≤ x ∧ 0 ≤ y ∧ 0 ≤ z ∧ x + z ≤ ((hk h a).2 : Int) ∧ y + z ≤ ((hk h b).2 : Int)) (hab : a ≠ b) (h1b : 55 ≤ b) (hzw : zw S ≤ 8) (hR1 : 1 ≤ R.frames) (hR2 : 40 ≤ R.locals) (d : decode cc pc = .ok (.invokestatic i, 3))
    (k : ZGo p l e R s m args below meth c Qf D A ρs hc h0 nL (pc + 3) L S (zcpy h a x.toNat b y.toNat z.toNat)) : ZGo p l e R s m args below meth c Qf D A ρs hc h0 nL pc L (vI z :: vI y :: vA (some b) :: vI x :: vA (some a) :: S) h := by
  intro ρ κ H locs ls g1 g2 g3 g4
  obtain ⟨b1, b2, b3, b4, b5⟩ := hbd
  have h2b : b < hn h := (hd1 (tl1 (tl1 g4))).1
  have h2 : a < hn h := (hd1 (tl1 (tl1 (tl1 (tl1 g4))))).1
  have g5 := tl1 (tl1 (tl1 (tl1 (tl1 g4))))
  have hsum := zw_sum g1.2.2.2.2.2 g5
  have hwd := znfw
  obtain ⟨heb, hlb, helb⟩ := zSt_arr g1 h1b h2b (by omega)
  have xr : -2147483648 ≤ x ∧ x ≤ 2147483647 := (hd1 (tl1 (tl1 (tl1 g4)))).1
  have yr : -2147483648 ≤ y ∧ y ≤ 2147483647 := (hd1 (tl1 g4)).1
  have zr : -2147483648 ≤ z ∧ z ≤ 2147483647 := (hd1 g4).1
  obtain ⟨x1, x2⟩ := zn0 (x := x) b1 xr.2
  obtain ⟨y1, y2⟩ := zn0 (x := y) b2 yr.2
  obtain ⟨z1, z2⟩ := zn0 (x := z) b3 zr.2
  show W p l e R s m args below meth c H locs _ _ Qf (F0 m pc ls (.int (Int32.ofInt z) :: .int (Int32.ofInt y) :: ρ b :: .int (Int32.ofInt x) :: ρ a :: S.map (cv ρ)))
  have h4 : x.toNat + z.toNat ≤ (hk h a).2 := by omega
  have h5 : y.toNat + z.toNat ≤ (hk h b).2 := by omega
  have hcA : a < 55 → ∀ j, j < (hk h a).2 → vok (hn h) (hm h a j) ∧ zelok (hk h a).1 (hm h a j) := by
    intro hl j hj
    have hkc := g1.2.2.2.1 a hl
    rw [hkc.1] at hj hkk ⊢
    rw [hkc.2]
    have := (hC.2.2.1 a hl (by omega) (by omega)).2.2 j hj
    exact ⟨vok_mono g1.2.1.2.2.1.1 this.2, this.1⟩
  have hok' : hok (zcpy h a x.toNat b y.toNat z.toNat) := hok_cpy g1.2.1.2.2.1 hcA h2 ⟨hkk.1, by omega, by omega⟩ h4
  have hoff : ∀ d, d ≠ b → hm (zcpy h a x.toNat b y.toNat z.toNat) d = hm h d := by
    intro d hd
    funext k
    show (if d = b ∧ _ ∧ _ then _ else _) = _
    rw [if_neg (fun z => hd z.1)]
    rfl
  have fin : ∀ (H1 : Heap) (locs1 : List Loc), va_P D zcl ((zWl ρ κ h).set (b - 55) (ca ρ b, zE ρ κ (zcpy h a x.toNat b y.toNat z.toNat) b)) H1 → va_D A ((zWl ρ κ h).set (b - 55) (ca ρ b, zE ρ κ (zcpy h a x.toNat b y.toNat z.toNat) b)) → va_S A s.heap H1 locs1 → W p l e R s m args below meth c H1 locs1 (hn h - hn h0) (hs h - hs h0) Qf (F0 m (pc + 3) ls (S.map (cv ρ))) := by
    intro H1 locs1 hP hD hS
    exact k ρ κ H1 locs1 ls (zSt_upd g1 rfl rfl rfl hoff h1b h2b hok' hP hD hS) g2 g3 g5
  have hzE : zE ρ κ (zcpy h a x.toNat b y.toNat z.toNat) b = .inl (κ b, (hk h b).2, zarr ρ (hk h b).1 (hk h b).2 (hm (zcpy h a x.toNat b y.toNat z.toNat) b)) := zE_arr (h := zcpy h a x.toNat b y.toNat z.toNat) (by show ¬ 100 ≤ (hk h b).1; omega)
  rw [hzE] at fin
  have hel : ∀ j, j < (hk h a).2 → vok (hn h) (hm h a j) ∧ zelok (hk h a).1 (hm h a j) := by
    rcases Nat.lt_or_ge a 55 with hl | hl
    · exact hcA hl
    · exact (zSt_arr g1 hl h2 (by omega)).2.2
  rw [zSt_ref g1 h1b h2b]
  rcases hkk.2 with e2 | e4
  · have e2b : (hk h b).1 = 2 := by omega
    rw [e2b] at heb fin
    have ef : zarr ρ 2 (hk h b).2 (hm (zcpy h a x.toNat b y.toNat z.toNat) b) = .inl (va_cpy (fun k => if k < (hk h a).2 then vi32 (hm h a k) else 0) (fun k => if k < (hk h b).2 then vi32 (hm h b k) else 0) x.toNat y.toNat z.toNat) := by
      rw [zcpy_i h4 h5]; rfl
    rw [ef] at fin
    rw [← x2, ← y2, ← z2] at fin
    have hfit : ∀ i0, i0 < (Int32.ofInt z).toNatClampNeg → fits .byte (.int ((fun k => if k < (hk h a).2 then vi32 (hm h a k) else 0) ((Int32.ofInt x).toNatClampNeg + i0))) = true := by
      intro i0 hi0
      rw [z2] at hi0
      rw [x2]
      dsimp only
      rw [if_pos (by omega)]
      have := hel (x.toNat + i0) (by omega)
      rw [e2] at this
      exact zfitb g1.2.2.2.2.2 this.1 this.2
    rcases Nat.lt_or_ge a 55 with hl | hl
    · have hkc := g1.2.2.2.1 a hl
      have e2c : (hk hc a).1 = 2 := by rw [← hkc.1]; exact e2
      obtain ⟨⟨h3, -⟩, hT, hel2⟩ := hC.2.2.1 a hl (by omega) (by omega)
      rw [zSt_cr hC h55 g1 h3 hl]
      rw [e2c] at hT
      have hT' : va_T .byte (ca ρs a) (hk h a).2 (fun j => .int ((fun k => if k < (hk h a).2 then vi32 (hm h a k) else 0) j)) A s s.heap := by
        obtain ⟨cell, t1, t2, t3, t4, t5, t6, t7⟩ := hT
        rw [← hkc.1] at t4 t5 t6
        refine ⟨cell, t1, t2, t3, t4, t5, fun j hj => ?_, t7⟩
        rw [t6 j hj]
        dsimp only
        rw [if_pos hj, hkc.2]
        rw [hkc.1] at hj
        obtain ⟨v, ev, -⟩ : ∃ v, hm hc a j = vI v ∧ True := by
          have := (hel2 j hj).1
          rw [e2c] at this
          obtain ⟨v, ev, -⟩ := this
          exact ⟨v, ev, trivial⟩
        rw [ev]
        rfl
      exact vk_copyt hx hb (by rw [hnl]; exact g2.2.1.symm) hown hlink hnat hstat hini (zSt_K hK g1 h1b h2b (by omega)) g1.2.1.1 g1.2.1.2.1 g1.2.2.1 hT' (b - 55) 0 heb (by rw [e2b]; rfl) x1 y1 z1 (by rw [x2, z2]; exact h4) (by rw [y2, z2]; exact h5) hfit hR1 (by rw [hsum]; omega) d fin
    · obtain ⟨hea, -, -⟩ := zSt_arr g1 hl h2 (by omega)
      rw [e2] at hea
      rw [zSt_ref g1 hl h2]
      exact va_copyi (ty := .byte) hx hb (by rw [hnl]; exact g2.2.1.symm) hown hlink hnat hstat hini (zSt_K2 hK g1 hl h2 (by omega) h1b h2b (by omega)) g1.2.1.1 g1.2.1.2.1 g1.2.2.1 (a - 55) (b - 55) 0 1 hea heb (by rw [e2]; rfl) (by rw [e2b]; rfl) rfl x1 y1 z1 (by rw [x2, z2]; exact h4) (by rw [y2, z2]; exact h5) hfit hR1 (by rw [hsum]; omega) d fin
  · have e4b : (hk h b).1 = 4 := by omega
    have hl : 55 ≤ a := by
      rcases Nat.lt_or_ge a 55 with hl | hl
      · exfalso
        have hkc := g1.2.2.2.1 a hl
        have e4c : (hk hc a).1 = 4 := by rw [← hkc.1]; exact e4
        have := (hC.2.2.1 a hl (by omega) (by omega)).1.2.1
        omega
      · exact hl
    rw [e4b] at heb fin
    have ef : zarr ρ 4 (hk h b).2 (hm (zcpy h a x.toNat b y.toNat z.toNat) b) = .inr (.inl (va_cpy (fun k => if k < (hk h a).2 then vi64 (hm h a k) else 0) (fun k => if k < (hk h b).2 then vi64 (hm h b k) else 0) x.toNat y.toNat z.toNat)) := by
      rw [zcpy_l h4 h5]; rfl
    rw [ef] at fin
    rw [← x2, ← y2, ← z2] at fin
    obtain ⟨hea, -, -⟩ := zSt_arr g1 hl h2 (by omega)
    rw [e4] at hea
    rw [zSt_ref g1 hl h2]
    exact va_copyl (ty := .long) hx hb (by rw [hnl]; exact g2.2.1.symm) hown hlink hnat hstat hini (zSt_K2 hK g1 hl h2 (by omega) h1b h2b (by omega)) g1.2.1.1 g1.2.1.2.1 g1.2.2.1 (a - 55) (b - 55) 0 1 hea heb (by rw [e4]; rfl) (by rw [e4b]; rfl) rfl x1 y1 z1 (by rw [x2, z2]; exact h4) (by rw [y2, z2]; exact h5) (fun _ _ => rfl) hR1 (by rw [hsum]; omega) d fin
theorem zs_clone (hx : p.tables.exec = Jvm.exec) (hb : c.code = cc) (hnl : c.maxLocals = nL) {own ad : String} {i : Nat} (hown : s.vm.findClass own = some m.cls) (hA : ∀ q, s.heap.size ≤ q → A q) (hK : va_K D zcl [] s) (hlink : (Cond.methodLink own i ⟨ad, "clone", "()Ljava/lang/Object;"⟩).before args s = true) (hsame : (Cond.sameMethod ad "java/lang/Object" "clone" "()Ljava/lang/Object;").before args s = true)
    (hnat : (Cond.native ⟨"java/lang/Object", "clone", "()Ljava/lang/Object;"⟩).before args s = true) (hinst : (Cond.instanceMethod ⟨"java/lang/Object", "clone", "()Ljava/lang/Object;"⟩).before args s = true)
    (hsel : (Cond.selects ad ⟨ad, "clone", "()Ljava/lang/Object;"⟩ ⟨"java/lang/Object", "clone", "()Ljava/lang/Object;"⟩).before args s = true) (hcl : va_Nw (.castable ad "java/lang/Cloneable") s)
    (had : ((hk h a).1 = 2 ∧ ad = "[B") ∨ ((hk h a).1 = 4 ∧ ad = "[J")) (hl : 55 ≤ a) (hzw : zw S ≤ 8) (hR1 : 1 ≤ R.frames) (hR2 : 40 ≤ R.locals) (hR3 : hn h - hn h0 + 1 ≤ R.cells) (hR4 : hs h - hs h0 + (hk h a).2 ≤ R.slots) (d : decode cc pc = .ok (.invokevirtual i, 3))
    (k : ZGo p l e R s m args below meth c Qf D A ρs hc h0 nL (pc + 3) L (vA (some (hn h)) :: S) (hnew h (hk h a) (hk h a).2 (hm h a))) : ZGo p l e R s m args below meth c Qf D A ρs hc h0 nL pc L (vA (some a) :: S) h := by
  intro ρ κ H locs ls g1 g2 g3 g4
  have h2 : a < hn h := (hd1 g4).1
  have hk6 : (hk h a).1 = 2 ∨ (hk h a).1 = 4 := by rcases had with ⟨z, -⟩ | ⟨z, -⟩ <;> omega
  have hsum := zw_sum g1.2.2.2.2.2 (tl1 g4)
  obtain ⟨he, hlen, hel⟩ := zSt_arr g1 hl h2 (by omega)
  have hnm : s.vm.findClass ad = some (κ a) := zSt_nm g1 hl h2 (by rcases had with ⟨z, rfl⟩ | ⟨z, rfl⟩ <;> simp [z])
  show W p l e R s m args below meth c H locs _ _ Qf (F0 m pc ls (ρ a :: S.map (cv ρ)))
  rw [zSt_ref g1 hl h2]
  refine va_clone (ty := zaty (hk h a).1) hx hb (by rw [hnl]; exact g2.2.1.symm) hown hlink hsame hnat hinst hsel hcl (zSt_K hK g1 hl h2 (by omega)) g1.2.1.1 g1.2.1.2.1 g1.2.2.1 hA (a - 55) 0 he rfl hnm ?_ hR1 (by rw [hsum]; omega) hR3 hR4 d (fun q H1 hK1 hP hD hS => ?_)
  · intro i0 v hv
    rcases hk6 with e | e <;> rw [e] at hv ⊢
    · have hv : (arrV (κ a) (hk h a).2 (fun j => .int (if j < (hk h a).2 then vi32 (hm h a j) else 0))).slots[i0]? = some v := hv
      have hi : i0 < (hk h a).2 := by
        have := (Array.getElem?_eq_some_iff.mp hv).1
        rwa [arrV_size] at this
      rw [arrV_read _ _ hi, if_pos hi] at hv
      cases hv
      have := hel i0 hi
      rw [e] at this
      exact zfitb g1.2.2.2.2.2 this.1 this.2
    · have hv : (arrV (κ a) (hk h a).2 (fun j => .long (if j < (hk h a).2 then vi64 (hm h a j) else 0))).slots[i0]? = some v := hv
      have hi : i0 < (hk h a).2 := by
        have := (Array.getElem?_eq_some_iff.mp hv).1
        rwa [arrV_size] at this
      rw [arrV_read _ _ hi, if_pos hi] at hv
      cases hv
      rfl
  · have ek : hk (hnew h (hk h a) (hk h a).2 (hm h a)) (hn h) = hk h a := by rw [hk_new, if_pos rfl]
    have em : hm (hnew h (hk h a) (hk h a).2 (hm h a)) (hn h) = hm h a := by funext j; rw [hm_new, if_pos rfl]
    have hee : zE (zup ρ (hn h) (.ref q)) (zup κ (hn h) (κ a)) (hnew h (hk h a) (hk h a).2 (hm h a)) (hn h) = .inl (κ a, (hk h a).2, zarr ρ (hk h a).1 (hk h a).2 (hm h a)) := by
      rw [zE_arr (by rw [ek]; omega), ek, em, zup_s]
      rcases hk6 with e | e <;> rw [e] <;> rfl
    rw [← hee] at hP hD
    have hcc := g1.2.1.2.2.2.2 a hl h2 (by omega)
    have hr := g1.2.1.new (U := s) (Or.inr ⟨by omega, by omega, hlen, fun j hj => ⟨vok_mono (Nat.le_succ _) (hel j hj).1, (hel j hj).2⟩⟩) (fun _ => hcc) hP hD
    have kk := k _ _ H1 locs ls (zSt_new g1 hr hS) (zLoc_ext g2 (fun b hb => zup_n _ _ (by omega)) g3) (fun v hv => vok_mono (Nat.le_succ _) (g3 v hv)) (all1 (vok_a (fun b z => by cases z; rw [hn_new]; omega)) (fun w hw => ⟨vok_mono (Nat.le_succ _) ((tl1 g4) w hw).1, ((tl1 g4) w hw).2⟩))
    rw [hn_new, hs_new] at kk
    have e1 : hn h + 1 - hn h0 = hn h - hn h0 + 1 := by have := g1.2.2.2.2.1.1; omega
    have e2 : hs h + (hk h a).2 - hs h0 = hs h - hs h0 + (hk h a).2 := by have := g1.2.2.2.2.1.2; omega
    rw [e1, e2] at kk
    have kk : W p l e R s m args below meth c H1 locs (hn h - hn h0 + 1) (hs h - hs h0 + (hk h a).2) Qf (F0 m (pc + 3) ls (zup ρ (hn h) (.ref q) (hn h) :: S.map (cv (zup ρ (hn h) (.ref q))))) := kk
    rw [zup_s, zmap_ext (fun w hw => ((tl1 g4) w hw).1)] at kk
    exact kk
end
