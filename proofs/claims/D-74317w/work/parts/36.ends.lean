/-! The end of one method's run; throws and handlers. -/
def zEnd (D : va_G) (A : Nat → Prop) (ρs : Nat → Value) (hc h0 h1 : MH) (t : State) (ρ : Nat → Value) (κ : Nat → ClassId) : Prop :=
  (∀ a, a < hn h0 → ρ a = ρs a) ∧ zRel D ρ κ A h1 t t.heap ∧ (∀ a, a < 55 → hk h1 a = hk hc a ∧ hm h1 a = hm hc a) ∧ (hn h0 ≤ hn h1 ∧ hs h0 ≤ hs h1) ∧ (∀ a, a < hn h1 → ρ a = .null ∨ ∃ q, ρ a = .ref q)
def zExk (c : Nat) : Prop := (120 ≤ c ∧ c ≤ 123) ∨ c = 109
def zQ (D : va_G) (A : Nat → Prop) (ρs : Nat → Value) (hc h0 : MH) (o : ZO) (h1 : MH) : Array Value → State → Outcome → State → Prop := fun _ st oc t =>
  ∃ ρ κ, zEnd D A ρs hc h0 h1 t ρ κ ∧ va_F A st t ∧ (match o with
    | .inl none => oc = .returned none
    | .inl (some v) => (vok (hn h1) v ∧ v ≠ vJ) ∧ oc = .returned (some (cv ρ v))
    | .inr _ => False)
def zX (D : va_G) (A : Nat → Prop) (ρs : Nat → Value) (hc h0 : MH) (o : ZO) (h1 : MH) : String → Addr → State → State → Prop := fun E q st t =>
  ∃ ρ κ e, o = .inr e ∧ zEnd D A ρs hc h0 h1 t ρ κ ∧ va_F A st t ∧ (e < hn h1 ∧ zExk (hk h1 e).1) ∧ ρ e = .ref q ∧ zcn ((hk h1 e).1 - 100) = E
def zQf (D : va_G) (A : Nat → Prop) (ρs : Nat → Value) (hc h0 : MH) (o : ZO) (h1 : MH) (below : List Frame) (args : Array Value) (s : State) : State → Prop :=
  vx_MQ below (zQ D A ρs hc h0 o h1) (zX D A ρs hc h0 o h1) args s (hn h1 - hn h0) (hs h1 - hs h0) A
def zPc (SR : List (String × Nat × String × Nat)) (D : va_G) (A : Nat → Prop) (ρ : Nat → Value) (κ : Nat → ClassId) (hc h0 : MH) (as : List V) : Array Value → State → Prop := fun a st =>
  a = (as.map (cv ρ)).toArray ∧ zRel D ρ κ A h0 st st.heap ∧ zTab D st ∧ zCon SR A ρ hc st ∧ (∀ q, st.heap.size ≤ q → A q) ∧ (∀ a, a < 55 → hk h0 a = hk hc a ∧ hm h0 a = hm hc a) ∧ (∀ a, a < hn h0 → ρ a = .null ∨ ∃ q, ρ a = .ref q)
theorem zPc_blind {SR : List (String × Nat × String × Nat)} {D : va_G} {A : Nat → Prop} {ρ : Nat → Value} {κ : Nat → ClassId} {hc h0 : MH} {as : List V} : FrameBlind (zPc SR D A ρ κ hc h0 as) := by
  intro a U g mk h
  obtain ⟨h1, h2, h3, h4, h5, h6, h7⟩ := h
  have hvm : U.vm.Alike (U.calling g mk a).vm := Vm.Alike.refl _
  have hW : U.WarmedH (U.calling g mk a).vm := State.WarmedH.refl U
  exact ⟨h1, h2.moved (U := U.calling g mk a) hvm, h3.moved (U := U.calling g mk a) hW, h4.moved (U := U.calling g mk a) hW (fun q _ _ => rfl) (fun _ _ => rfl), h5, h6, h7⟩
/-- the rows of the two tables of handlers, one by one -/
def zHok (own : String) : List (Nat × Nat × Nat × Nat) → List (Nat × Nat × Nat × Nat) → Prop
  | [], [] => True
  | r :: rs, q :: qs => (r.1 = q.1 ∧ r.2.1 = q.2.1 ∧ r.2.2.1 = q.2.2.1 ∧ r.2.2.2 ≠ 0 ∧ Cond.classLink own r.2.2.2 (zcn (q.2.2.2 - 100)) ∈ lw_all ∧ zExk q.2.2.2) ∧ zHok own rs qs
  | _, _ => False
def zPs (own : String) (pc kd : Nat) (z : ExceptionTableEntry) : Prop := covers z pc = false ∨ (z.catchType ≠ 0 ∧ ∃ nm : String, Cond.classLink own z.catchType nm ∈ lw_all ∧ (zcn (kd - 100), nm) ∈ zNcs)
theorem zNc_all : [109, 120, 121, 122, 123].all (fun c => [109, 120, 121, 122, 123].all (fun d => decide (c = d) || zNcs.contains (zcn (c - 100), zcn (d - 100)))) = true := by decide +kernel
theorem zExk_mem {c : Nat} (h : zExk c) : c ∈ [109, 120, 121, 122, 123] := by
  have : c = 109 ∨ c = 120 ∨ c = 121 ∨ c = 122 ∨ c = 123 := by unfold zExk at h; omega
  rcases this with rfl | rfl | rfl | rfl | rfl <;> simp
theorem zNc_of {c d : Nat} (hc : zExk c) (hd : zExk d) (h : c ≠ d) : (zcn (c - 100), zcn (d - 100)) ∈ zNcs := by
  have := List.all_eq_true.mp (List.all_eq_true.mp zNc_all c (zExk_mem hc)) d (zExk_mem hd)
  rw [Bool.or_eq_true, decide_eq_true_eq] at this
  rcases this with z | z
  · exact absurd z h
  · exact List.contains_iff_mem.mp z
theorem zHok_cov {r q : Nat × Nat × Nat × Nat} {pc : Nat} (h1 : r.1 = q.1) (h2 : r.2.1 = q.2.1) : covers ⟨r.1, r.2.1, r.2.2.1, r.2.2.2⟩ pc = (Nat.ble q.1 pc && Nat.blt pc q.2.1) := by
  unfold covers
  rw [h1, h2]
  rw [Bool.eq_iff_iff]
  simp [Nat.ble_eq, Nat.blt_eq]
theorem zHok_ok {own : String} {pc kd : Nat} (hkd : zExk kd) : ∀ (hh hd : List (Nat × Nat × Nat × Nat)), zHok own hh hd →
    (∀ t, zHF pc kd hd = some t → ∃ pre x suf, tableOf hh = pre ++ x :: suf ∧ (∀ z, z ∈ pre → zPs own pc kd z) ∧ covers x pc = true ∧ x.catchType ≠ 0 ∧ x.handlerPc = t ∧ Cond.classLink own x.catchType (zcn (kd - 100)) ∈ lw_all) ∧
    (zHF pc kd hd = none → ∀ z, z ∈ tableOf hh → zPs own pc kd z) := by
  intro hh
  induction hh with
  | nil =>
    intro hd h
    cases hd with
    | nil => exact ⟨fun t z => (by cases z), fun _ z hz => (by cases hz)⟩
    | cons q qs => exact h.elim
  | cons r rs ih =>
    intro hd h
    cases hd with
    | nil => exact h.elim
    | cons q qs =>
      obtain ⟨⟨e1, e2, e3, e4, e5, e6⟩, h⟩ := h
      obtain ⟨i1, i2⟩ := ih qs h
      have hcov := zHok_cov (pc := pc) e1 e2
      have htab : tableOf (r :: rs) = ⟨r.1, r.2.1, r.2.2.1, r.2.2.2⟩ :: tableOf rs := rfl
      cases hb : (Nat.ble q.1 pc && (Nat.blt pc q.2.1 && Nat.beq q.2.2.2 kd)) with
      | true =>
        have eF : zHF pc kd (q :: qs) = some q.2.2.1 := by
          show (bif (Nat.ble q.1 pc && (Nat.blt pc q.2.1 && Nat.beq q.2.2.2 kd)) then some q.2.2.1 else zHF pc kd qs) = _
          rw [hb]; rfl
        rw [eF]
        rw [Bool.and_eq_true, Bool.and_eq_true] at hb
        refine ⟨fun t z => ?_, fun z => (by cases z)⟩
        cases z
        refine ⟨[], _, tableOf rs, htab, fun z hz => (by cases hz), ?_, e4, e3, ?_⟩
        · rw [hcov, hb.1, hb.2.1, Bool.and_self]
        · rw [← Nat.eq_of_beq_eq_true hb.2.2]; exact e5
      | false =>
        have eF : zHF pc kd (q :: qs) = zHF pc kd qs := by
          show (bif (Nat.ble q.1 pc && (Nat.blt pc q.2.1 && Nat.beq q.2.2.2 kd)) then some q.2.2.1 else zHF pc kd qs) = _
          rw [hb]; rfl
        rw [eF, htab]
        have hps : zPs own pc kd ⟨r.1, r.2.1, r.2.2.1, r.2.2.2⟩ := by
          cases hcv : covers ⟨r.1, r.2.1, r.2.2.1, r.2.2.2⟩ pc with
          | false => exact Or.inl hcv
          | true =>
            refine Or.inr ⟨e4, _, e5, zNc_of hkd e6 (fun z => ?_)⟩
            rw [hcov, Bool.and_eq_true] at hcv
            rw [hcv.1, hcv.2, z, Nat.beq_refl] at hb
            cases hb
        refine ⟨fun t z => ?_, fun z y hy => ?_⟩
        · obtain ⟨pre, x, suf, j1, j2, j3⟩ := i1 t z
          refine ⟨⟨r.1, r.2.1, r.2.2.1, r.2.2.2⟩ :: pre, x, suf, by rw [j1]; rfl, fun y hy => ?_, j3⟩
          rcases List.mem_cons.mp hy with rfl | hy
          · exact hps
          · exact j2 y hy
        · rcases List.mem_cons.mp hy with rfl | hy
          · exact hps
          · exact i2 z y hy
theorem zCself {c : Nat} (h : zExk c) : Cond.castable (zcn (c - 100)) (zcn (c - 100)) ∈ zNw := by
  have : c = 109 ∨ c = 120 ∨ c = 121 ∨ c = 122 ∨ c = 123 := by unfold zExk at h; omega
  rcases this with rfl | rfl | rfl | rfl | rfl
  · exact nw q1036 rfl
  · exact nw q913 rfl
  · exact nw q1572 rfl
  · exact nw q1263 rfl
  · exact nw q350 rfl
section
variable {ML : List (Nat × zIs)} {SR : List (String × Nat × String × Nat)} {p : Program} {l : Launch} {e : Env} {R : Room} {s : State} {m : MethodId} {args : Array Value} {below : List Frame} {meth : Method} {c : Code} {Qf : State → Prop} {D : va_G} {A : Nat → Prop} {ρs : Nat → Value} {hc h0 h1 : MH} {k lv pc nx : Nat} {y : MethodName} {cc : ByteArray} {ret : Option FieldType} {hh : List (Nat × Nat × Nat × Nat)} {L S : List V} {h : MH}
theorem zSt_end {κ : Nat → ClassId} {ρ : Nat → Value} {H : Heap} {locs : List Loc} (g : zSt D A ρs hc h0 s ρ κ h H locs) {t : State} (ht : t.heap = H) (hW : s.WarmedH t.vm) : zEnd D A ρs hc h0 h t ρ κ ∧ va_F A s t := by
  subst ht
  exact ⟨⟨g.1, g.2.1.moved hW.alike, g.2.2.2.1, g.2.2.2.2.1, g.2.2.2.2.2⟩, g.2.2.1.F rfl⟩
theorem zr_void (C : zCx ML SR p l R s m args meth c D A ρs hc h0 h1 k lv y cc ret hh) (d : decode cc pc = .ok (.return_, 1)) (hr : ret = none) : ZGo p l e R s m args below meth c (zQf D A ρs hc h0 (.inl none) h below args s) D A ρs hc h0 (zML k) pc L [] h := by
  obtain ⟨hx, hst, hb, hml, hown, hnm, hret, hlk, htb, hts, hT, hC, h55, hA, hR, hR2⟩ := C
  intro ρ κ H locs ls g1 g2 g3 g4
  refine vx_ret (W.vret hx hb (by rw [hret, hr]) (fun t ht hW => ?_) g1.2.2.1.2.2 d hlk)
  obtain ⟨e1, e2⟩ := zSt_end g1 ht hW
  exact ⟨ρ, κ, e1, e2, rfl⟩
theorem zr_int {x : Int} (C : zCx ML SR p l R s m args meth c D A ρs hc h0 h1 k lv y cc ret hh) (d : decode cc pc = .ok (.ireturn, 1)) (hr : (ret = some .int ∧ zRT k = 0) ∨ (ret = some .boolean ∧ zRT k = 1) ∨ (ret = some .byte ∧ zRT k = 2) ∨ (ret = some .char ∧ zRT k = 3)) (hx0 : zrok (zRT k) x) : ZGo p l e R s m args below meth c (zQf D A ρs hc h0 (.inl (some (vI x))) h below args s) D A ρs hc h0 (zML k) pc L [vI x] h := by
  obtain ⟨hx, hst, hb, hml, hown, hnm, hret, hlk, htb, hts, hT, hC, h55, hA, hR, hR2⟩ := C
  intro ρ κ H locs ls g1 g2 g3 g4
  have hxr : -2147483648 ≤ x ∧ x ≤ 2147483647 := (hd1 g4).1
  have hq : ∀ t : State, t.heap = H → s.WarmedH t.vm → zQ D A ρs hc h0 (.inl (some (vI x))) h args s (.returned (some (.int (Int32.ofInt x)))) t := by
    intro t ht hW
    obtain ⟨e1, e2⟩ := zSt_end g1 ht hW
    exact ⟨ρ, κ, e1, e2, hd1 g4, rfl⟩
  have fin : ∀ ty, ret = some ty → narrow ty (.int (Int32.ofInt x)) = .int (Int32.ofInt x) → W p l e R s m args below meth c H locs (hn h - hn h0) (hs h - hs h0) (zQf D A ρs hc h0 (.inl (some (vI x))) h below args s) (F0 m pc ls [.int (Int32.ofInt x)]) :=
    fun ty h1 h2 => vx_ret (W.zret hx hb (hret.trans h1) h2 hq g1.2.2.1.2.2 d hlk)
  rcases hr with ⟨hr, hz⟩ | ⟨hr, hz⟩ | ⟨hr, hz⟩ | ⟨hr, hz⟩ <;> rw [hz] at hx0
  · exact fin .int hr rfl
  · have hx0 : x = 0 ∨ x = 1 := hx0
    exact fin .boolean hr (zfit (ty := .boolean) g1.2.2.2.2.2 (hd1 g4).1 (by show decide (x = 0 ∨ x = 1) = true; exact decide_eq_true hx0)).1
  · have hx0 : -128 ≤ x ∧ x ≤ 127 := hx0
    exact fin .byte hr (zfit (ty := .byte) g1.2.2.2.2.2 (hd1 g4).1 (by show decide (-128 ≤ x ∧ x ≤ 127) = true; exact decide_eq_true hx0)).1
  · have hx0 : 0 ≤ x ∧ x ≤ 65535 := hx0
    refine fin .char hr ?_
    show Value.int (((Int32.ofInt x).toUInt32 % 65536).toInt32) = _
    rw [← cI_c, wc_id hx0]
theorem zr_long {x : Int} (C : zCx ML SR p l R s m args meth c D A ρs hc h0 h1 k lv y cc ret hh) (d : decode cc pc = .ok (.lreturn, 1)) (hr : ret = some .long) : ZGo p l e R s m args below meth c (zQf D A ρs hc h0 (.inl (some (vL x))) h below args s) D A ρs hc h0 (zML k) pc L [vL x] h := by
  obtain ⟨hx, hst, hb, hml, hown, hnm, hret, hlk, htb, hts, hT, hC, h55, hA, hR, hR2⟩ := C
  intro ρ κ H locs ls g1 g2 g3 g4
  refine vx_ret (W.lret hx hb (hret.trans hr) (fun t ht hW => ?_) g1.2.2.1.2.2 d hlk)
  obtain ⟨e1, e2⟩ := zSt_end g1 ht hW
  exact ⟨ρ, κ, e1, e2, hd1 g4, rfl⟩
theorem zr_ref {r : Option Nat} (C : zCx ML SR p l R s m args meth c D A ρs hc h0 h1 k lv y cc ret hh) (d : decode cc pc = .ok (.areturn, 1)) (hr : ∃ rt, ret = some rt ∧ ((∃ n, rt = .object n) ∨ ∃ t, rt = .array t)) : ZGo p l e R s m args below meth c (zQf D A ρs hc h0 (.inl (some (vA r))) h below args s) D A ρs hc h0 (zML k) pc L [vA r] h := by
  obtain ⟨hx, hst, hb, hml, hown, hnm, hret, hlk, htb, hts, hT, hC, h55, hA, hR, hR2⟩ := C
  intro ρ κ H locs ls g1 g2 g3 g4
  obtain ⟨rt, hr, hrt⟩ := hr
  refine vx_ret (W.aret (v := cv ρ (vA r)) hx hb (hret.trans hr) hrt ?_ (fun t ht hW => ?_) g1.2.2.1.2.2 d hlk)
  · cases r with
    | none => exact Or.inl rfl
    | some a => exact g1.2.2.2.2.2 a (hd1 g4).1
  · obtain ⟨e1, e2⟩ := zSt_end g1 ht hW
    exact ⟨ρ, κ, e1, e2, hd1 g4, rfl⟩
/-- a thrown object: into a handler of this method, or out of it -/
theorem zr_thrown {o : ZO} {e0 : Nat} (C : zCx ML SR p l R s m args meth c D A ρs hc h0 h1 k lv y cc ret hh) (hH : zHok y.cls hh (zHD k)) (hkd : zExk (hk h e0).1) {κ : Nat → ClassId} {ρ : Nat → Value} {H : Heap} {locs : List Loc} {ls : Array Slot} {rest : List Value} (g1 : zSt D A ρs hc h0 s ρ κ h H locs) (g2 : zLoc ρ (zML k) L ls) (g3 : ∀ v ∈ L, vok (hn h) v) (he : e0 < hn h)
    (kt : ∀ t, zHF pc (hk h e0).1 (zHD k) = some t → ZGo p l e R s m args below meth c (zQf D A ρs hc h0 o h1 below args s) D A ρs hc h0 (zML k) t L [vA (some e0)] h) (kn : zHF pc (hk h e0).1 (zHD k) = none → o = .inr e0 ∧ h1 = h) :
    ∃ q, ρ e0 = .ref q ∧ vx_W p l e R s m args below meth c H locs (hn h - hn h0) (hs h - hs h0) (zQf D A ρs hc h0 o h1 below args s) (F0 m pc ls rest) q := by
  obtain ⟨hx, hst, hb, hml, hown, hnm, hret, hlk, htb, hts, hT, hC, h55, hA, hR, hR2⟩ := C
  have hge : 100 ≤ (hk h e0).1 := by unfold zExk at hkd; omega
  have h55e : 55 ≤ e0 := by
    rcases Nat.lt_or_ge e0 55 with z | z
    · exfalso
      have h9 := (g1.2.2.2.1 e0 z).1
      have := (hC.2.1 e0 z (by rw [← h9]; exact hge)).1.2
      rw [← h9] at this
      unfold zExk at hkd
      omega
    · exact z
  have hget := zSt_get g1 h55e he
  rw [zE_obj hge] at hget
  obtain ⟨r, hr, cell, c1, c2, c3, -⟩ := g1.2.1.1 _ _ hget
  have hr : zcl[(hk h e0).1 - 100]? = some r := hr
  have c1 : H[ca ρ e0]? = some cell := c1
  have hrn : zcn ((hk h e0).1 - 100) = r.1 := by unfold zcn; rw [hr]
  have hcl : s.vm.findClass (zcn ((hk h e0).1 - 100)) = some cell.cls := by
    rw [hrn, c2]
    exact (hT.2.2.2.1 _ r hr).2.1
  refine ⟨ca ρ e0, zSt_ref g1 h55e he, ?_⟩
  obtain ⟨i1, i2⟩ := zHok_ok (pc := pc) hkd hh (zHD k) hH
  have hpass : ∀ z, zPs y.cls pc (hk h e0).1 z → covers z pc = false ∨ (z.catchType ≠ 0 ∧ ∃ nm : String, (Cond.classLink y.cls z.catchType nm).before args s = true ∧ va_Nc (zcn ((hk h e0).1 - 100)) nm s) := by
    intro z hz
    rcases hz with hz | ⟨hz, nm, hw, hnc⟩
    · exact Or.inl hz
    · exact Or.inr ⟨hz, nm, hts _ hw, hT.2.2.1 _ hnc⟩
  cases hF : zHF pc (hk h e0).1 (zHD k) with
  | some t =>
    obtain ⟨pre, x, suf, j1, j2, j3, j4, j5, j6⟩ := i1 t hF
    have kk := kt t hF ρ κ H locs ls g1 g2 g3 (all1 (vok_a (fun a z => by cases z; exact he)) (fun w hw => by cases hw))
    have kk : W p l e R s m args below meth c H locs _ _ _ (F0 m t ls [ρ e0]) := kk
    rw [zSt_ref g1 h55e he] at kk
    exact vx_catch hown pre x suf (by rw [htb]; exact j1) (fun z hz => hpass z (j2 z hz)) j3 j4 (hts _ j6) (va_Nw.use rfl (hT.1 _ (zCself hkd))) c1 c3 hcl (by rw [j5]; exact kk)
  | none =>
    obtain ⟨rfl, rfl⟩ := kn hF
    refine vx_outP hown hlk (fun z hz => hpass z (i2 hF z (by rw [← htb]; exact hz))) c1 c3 hcl (fun t ht hvm => ?_) g1.2.2.1.2.2 (Nat.le_refl _) (Nat.le_refl _)
    subst ht
    exact ⟨ρ, κ, e0, rfl, ⟨g1.1, g1.2.1.moved hvm, g1.2.2.2.1, g1.2.2.2.2.1, g1.2.2.2.2.2⟩, g1.2.2.1.F rfl, ⟨he, hkd⟩, zSt_ref g1 h55e he, rfl⟩
theorem zr_athrow {o : ZO} {e0 : Nat} (C : zCx ML SR p l R s m args meth c D A ρs hc h0 h1 k lv y cc ret hh) (hH : zHok y.cls hh (zHD k)) (hkd : zExk (hk h e0).1) (d : decode cc pc = .ok (.athrow, 1))
    (kt : ∀ t, zHF pc (hk h e0).1 (zHD k) = some t → ZGo p l e R s m args below meth c (zQf D A ρs hc h0 o h1 below args s) D A ρs hc h0 (zML k) t L [vA (some e0)] h) (kn : zHF pc (hk h e0).1 (zHD k) = none → o = .inr e0 ∧ h1 = h) :
    ZGo p l e R s m args below meth c (zQf D A ρs hc h0 o h1 below args s) D A ρs hc h0 (zML k) pc L (vA (some e0) :: S) h := by
  intro ρ κ H locs ls g1 g2 g3 g4
  obtain ⟨q, e1, kk⟩ := zr_thrown (rest := S.map (cv ρ)) C hH hkd g1 g2 g3 (hd1 g4).1 kt kn
  obtain ⟨hx, hst, hb, hml, hown, hnm, hret, hlk, htb, hts, hT, hC, h55, hA, hR, hR2⟩ := C
  show W p l e R s m args below meth c H locs _ _ _ (F0 m pc ls (ρ e0 :: S.map (cv ρ)))
  rw [e1]
  exact vx_athrow hx hb d kk
end
