/-! One step of the mini machine is one of the real one: one lemma an opcode. -/
section
variable {ML : List (Nat × zIs)} {SR : List (String × Nat × String × Nat)} {p : Program} {l : Launch} {e : Env} {R : Room} {s : State} {m : MethodId} {args : Array Value} {below : List Frame} {meth : Method} {c : Code} {Qf : State → Prop} {D : va_G} {A : Nat → Prop} {ρs : Nat → Value} {hc h0 h1 : MH} {k lv pc nx : Nat} {y : MethodName} {cc : ByteArray} {ret : Option FieldType} {hh : List (Nat × Nat × Nat × Nat)} {L S : List V} {h : MH}
/-- the step's end holds on the real machine -/
def zPP (p : Program) (l : Launch) (e : Env) (R : Room) (s : State) (m : MethodId) (args : Array Value) (below : List Frame) (meth : Method) (c : Code) (Qf : State → Prop) (D : va_G) (A : Nat → Prop) (ρs : Nat → Value) (hc h0 h1 : MH) (nL nx : Nat) (i : Instr) (L S : List V) (h : MH) : Prop :=
  match plain i nx L S h with
  | some r => (hn r.2.2.2 ≤ hn h1 ∧ hs r.2.2.2 ≤ hs h1) ∧ ZGo p l e R s m args below meth c Qf D A ρs hc h0 nL r.1 r.2.1 r.2.2.1 r.2.2.2
  | none => False
theorem zPP_some {nL : Nat} {i : Instr} {a1 : Nat} {a2 a3 : List V} {a4 : MH} (q : zPP p l e R s m args below meth c Qf D A ρs hc h0 h1 nL nx i L S h) (hr : plain i nx L S h = some (a1, a2, a3, a4)) : (hn a4 ≤ hn h1 ∧ hs a4 ≤ hs h1) ∧ ZGo p l e R s m args below meth c Qf D A ρs hc h0 nL a1 a2 a3 a4 := by
  unfold zPP at q
  rw [hr] at q
  exact q
theorem zPP_none {nL : Nat} {i : Instr} {P : Prop} (q : zPP p l e R s m args below meth c Qf D A ρs hc h0 h1 nL nx i L S h) (hr : plain i nx L S h = none) : P := by
  unfold zPP at q
  rw [hr] at q
  exact q.elim
theorem ZGo_low {nL : Nat} (f : (∀ a, a < 55 → hk h a = hk hc a ∧ hm h a = hm hc a) → hok h → hn h0 ≤ hn h → hs h0 ≤ hs h → ZGo p l e R s m args below meth c Qf D A ρs hc h0 nL pc L S h) : ZGo p l e R s m args below meth c Qf D A ρs hc h0 nL pc L S h :=
  fun ρ κ H locs ls g1 g2 g3 g4 => f g1.2.2.2.1 g1.2.1.2.2.1 g1.2.2.2.2.1.1 g1.2.2.2.2.1.2 ρ κ H locs ls g1 g2 g3 g4
theorem ZGo_hL {nL : Nat} (f : (∀ v ∈ L, vok (hn h) v) → L.length = nL → (∀ v ∈ S, vok (hn h) v ∧ v ≠ vJ) → ZGo p l e R s m args below meth c Qf D A ρs hc h0 nL pc L S h) : ZGo p l e R s m args below meth c Qf D A ρs hc h0 nL pc L S h :=
  fun ρ κ H locs ls g1 g2 g3 g4 => f g3 g2.1 g4 ρ κ H locs ls g1 g2 g3 g4
theorem zp_iload {n : Nat} (C : zCx ML SR p l R s m args meth c D A ρs hc h0 h1 k lv y cc ret hh) (ev : zEv ML SR k y ret cc pc nx (.iload n)) (q : zPP p l e R s m args below meth c Qf D A ρs hc h0 h1 (zML k) nx (.iload n) L S h) : ZGo p l e R s m args below meth c Qf D A ρs hc h0 (zML k) pc L S h := by
  obtain ⟨hx, hst, hb, hml, hown, hnm, hret, hlk, htb, hts, hT, hC, h55, hA, hR, hR2⟩ := C
  rcases hl : L[n]? with _ | (x | x | (_ | x) | x)
  · exact zPP_none q (by simp only [plain, hl])
  rotate_left
  · exact zPP_none q (by simp only [plain, hl])
  · exact zPP_none q (by simp only [plain, hl])
  · exact zPP_none q (by simp only [plain, hl])
  · exact zPP_none q (by simp only [plain, hl])
  have q := (zPP_some (a1 := nx) (a2 := L) (a3 := vI x :: S) (a4 := h) q (by simp only [plain, hl])).2
  rcases ev with ⟨rfl, d⟩ | ⟨rfl, j, hj, d⟩
  · exact zs_iload hx hb d hl q
  · exact zs_iload_n hx hb d hj hl q
theorem zp_aload {n : Nat} (C : zCx ML SR p l R s m args meth c D A ρs hc h0 h1 k lv y cc ret hh) (ev : zEv ML SR k y ret cc pc nx (.aload n)) (q : zPP p l e R s m args below meth c Qf D A ρs hc h0 h1 (zML k) nx (.aload n) L S h) : ZGo p l e R s m args below meth c Qf D A ρs hc h0 (zML k) pc L S h := by
  obtain ⟨hx, hst, hb, hml, hown, hnm, hret, hlk, htb, hts, hT, hC, h55, hA, hR, hR2⟩ := C
  rcases hl : L[n]? with _ | (x | x | x | x)
  · exact zPP_none q (by simp only [plain, hl])
  · exact zPP_none q (by simp only [plain, hl])
  · exact zPP_none q (by simp only [plain, hl])
  rotate_left
  · exact zPP_none q (by simp only [plain, hl])
  have q := (zPP_some (a1 := nx) (a2 := L) (a3 := vA x :: S) (a4 := h) q (by simp only [plain, hl])).2
  rcases ev with ⟨rfl, d⟩ | ⟨rfl, j, hj, d⟩
  · exact zs_aload (r := x) hx hb d hl q
  · exact zs_aload_n (r := x) hx hb d hj hl q
theorem zp_lload {n : Nat} (C : zCx ML SR p l R s m args meth c D A ρs hc h0 h1 k lv y cc ret hh) (ev : zEv ML SR k y ret cc pc nx (.lload n)) (q : zPP p l e R s m args below meth c Qf D A ρs hc h0 h1 (zML k) nx (.lload n) L S h) : ZGo p l e R s m args below meth c Qf D A ρs hc h0 (zML k) pc L S h := by
  obtain ⟨hx, hst, hb, hml, hown, hnm, hret, hlk, htb, hts, hT, hC, h55, hA, hR, hR2⟩ := C
  rcases hl2 : L[n + 1]? with _ | (x2 | x2 | x2 | x2)
  · rcases hl : L[n]? with _ | (x | x | x | x) <;> exact zPP_none q (by simp only [plain, hl, hl2])
  · rcases hl : L[n]? with _ | (x | x | x | x) <;> exact zPP_none q (by simp only [plain, hl, hl2])
  · rcases hl : L[n]? with _ | (x | x | x | x) <;> exact zPP_none q (by simp only [plain, hl, hl2])
  · rcases hl : L[n]? with _ | (x | x | x | x) <;> exact zPP_none q (by simp only [plain, hl, hl2])
  rcases hl : L[n]? with _ | (x | x | (_ | x) | x)
  · exact zPP_none q (by simp only [plain, hl, hl2])
  · exact zPP_none q (by simp only [plain, hl, hl2])
  rotate_left
  · exact zPP_none q (by simp only [plain, hl, hl2])
  · exact zPP_none q (by simp only [plain, hl, hl2])
  · exact zPP_none q (by simp only [plain, hl, hl2])
  have q := (zPP_some (a1 := nx) (a2 := L) (a3 := vL x :: S) (a4 := h) q (by simp only [plain, hl, hl2])).2
  rcases ev with ⟨rfl, d⟩ | ⟨rfl, j, hj, d⟩
  · exact zs_lload hx hb d hl hl2 q
  · exact zs_lload_n hx hb d hj hl hl2 q
theorem zp_istore {n : Nat} (C : zCx ML SR p l R s m args meth c D A ρs hc h0 h1 k lv y cc ret hh) (ev : zEv ML SR k y ret cc pc nx (.istore n)) (q : zPP p l e R s m args below meth c Qf D A ρs hc h0 h1 (zML k) nx (.istore n) L S h) : ZGo p l e R s m args below meth c Qf D A ρs hc h0 (zML k) pc L S h := by
  obtain ⟨hx, hst, hb, hml, hown, hnm, hret, hlk, htb, hts, hT, hC, h55, hA, hR, hR2⟩ := C
  rcases S with _ | ⟨x | x | (_ | x) | x, S⟩
  · exact zPP_none q rfl
  rotate_left
  · exact zPP_none q rfl
  · exact zPP_none q rfl
  · exact zPP_none q rfl
  · exact zPP_none q rfl
  by_cases hn1 : n < L.length
  · have q := (zPP_some q (if_pos hn1)).2
    rcases ev with ⟨rfl, d⟩ | ⟨rfl, j, hj, d⟩
    · exact zs_istore hx hb d hn1 q
    · exact zs_istore_n hx hb d hj hn1 q
  · exact zPP_none q (if_neg hn1)
theorem zp_astore {n : Nat} (C : zCx ML SR p l R s m args meth c D A ρs hc h0 h1 k lv y cc ret hh) (ev : zEv ML SR k y ret cc pc nx (.astore n)) (q : zPP p l e R s m args below meth c Qf D A ρs hc h0 h1 (zML k) nx (.astore n) L S h) : ZGo p l e R s m args below meth c Qf D A ρs hc h0 (zML k) pc L S h := by
  obtain ⟨hx, hst, hb, hml, hown, hnm, hret, hlk, htb, hts, hT, hC, h55, hA, hR, hR2⟩ := C
  rcases S with _ | ⟨x | x | x | x, S⟩
  · exact zPP_none q rfl
  · exact zPP_none q rfl
  · exact zPP_none q rfl
  rotate_left
  · exact zPP_none q rfl
  by_cases hn1 : n < L.length
  · have q := (zPP_some q (if_pos hn1)).2
    rcases ev with ⟨rfl, d⟩ | ⟨rfl, j, hj, d⟩
    · exact zs_astore hx hb d hn1 q
    · exact zs_astore_n hx hb d hj hn1 q
  · exact zPP_none q (if_neg hn1)
theorem zp_lstore {n : Nat} (C : zCx ML SR p l R s m args meth c D A ρs hc h0 h1 k lv y cc ret hh) (ev : zEv ML SR k y ret cc pc nx (.lstore n)) (q : zPP p l e R s m args below meth c Qf D A ρs hc h0 h1 (zML k) nx (.lstore n) L S h) : ZGo p l e R s m args below meth c Qf D A ρs hc h0 (zML k) pc L S h := by
  obtain ⟨hx, hst, hb, hml, hown, hnm, hret, hlk, htb, hts, hT, hC, h55, hA, hR, hR2⟩ := C
  rcases S with _ | ⟨x | x | (_ | x) | x, S⟩
  · exact zPP_none q rfl
  · exact zPP_none q rfl
  rotate_left
  · exact zPP_none q rfl
  · exact zPP_none q rfl
  · exact zPP_none q rfl
  by_cases hn1 : n + 1 < L.length
  · have q := (zPP_some q (if_pos hn1)).2
    rcases ev with ⟨rfl, d⟩ | ⟨rfl, j, hj, d⟩
    · exact zs_lstore hx hb d hn1 q
    · exact zs_lstore_n hx hb d hj hn1 q
  · exact zPP_none q (if_neg hn1)
theorem zp_iinc {n : Nat} {cst : Int} (C : zCx ML SR p l R s m args meth c D A ρs hc h0 h1 k lv y cc ret hh) (ev : zEv ML SR k y ret cc pc nx (.iinc n cst)) (q : zPP p l e R s m args below meth c Qf D A ρs hc h0 h1 (zML k) nx (.iinc n cst) L S h) : ZGo p l e R s m args below meth c Qf D A ρs hc h0 (zML k) pc L S h := by
  obtain ⟨hx, hst, hb, hml, hown, hnm, hret, hlk, htb, hts, hT, hC, h55, hA, hR, hR2⟩ := C
  rcases hl : L[n]? with _ | (x | x | (_ | x) | x)
  · exact zPP_none q (by simp only [plain, hl])
  rotate_left
  · exact zPP_none q (by simp only [plain, hl])
  · exact zPP_none q (by simp only [plain, hl])
  · exact zPP_none q (by simp only [plain, hl])
  · exact zPP_none q (by simp only [plain, hl])
  have q := (zPP_some (a1 := nx) q (a2 := L.set n (vI (wr (x + cst)))) (a3 := S) (a4 := h) (by simp only [plain, hl])).2
  obtain ⟨rfl, d⟩ := ev
  exact zs_iinc hx hb d hl q
theorem zp_iconst {x : Int} (C : zCx ML SR p l R s m args meth c D A ρs hc h0 h1 k lv y cc ret hh) (ev : zEv ML SR k y ret cc pc nx (.iconst x)) (q : zPP p l e R s m args below meth c Qf D A ρs hc h0 h1 (zML k) nx (.iconst x) L S h) : ZGo p l e R s m args below meth c Qf D A ρs hc h0 (zML k) pc L S h := by
  obtain ⟨hx, hst, hb, hml, hown, hnm, hret, hlk, htb, hts, hT, hC, h55, hA, hR, hR2⟩ := C
  have q := (zPP_some q rfl).2
  obtain ⟨rfl, d, hr⟩ := ev
  exact zs_iconst hx hb d hr q
theorem zp_bipush {x : Int} (C : zCx ML SR p l R s m args meth c D A ρs hc h0 h1 k lv y cc ret hh) (ev : zEv ML SR k y ret cc pc nx (.bipush x)) (q : zPP p l e R s m args below meth c Qf D A ρs hc h0 h1 (zML k) nx (.bipush x) L S h) : ZGo p l e R s m args below meth c Qf D A ρs hc h0 (zML k) pc L S h := by
  obtain ⟨hx, hst, hb, hml, hown, hnm, hret, hlk, htb, hts, hT, hC, h55, hA, hR, hR2⟩ := C
  have q := (zPP_some q rfl).2
  obtain ⟨rfl, d, hr, h8⟩ := ev
  exact zs_bipush hx hb d hr h8 q
theorem zp_sipush {x : Int} (C : zCx ML SR p l R s m args meth c D A ρs hc h0 h1 k lv y cc ret hh) (ev : zEv ML SR k y ret cc pc nx (.sipush x)) (q : zPP p l e R s m args below meth c Qf D A ρs hc h0 h1 (zML k) nx (.sipush x) L S h) : ZGo p l e R s m args below meth c Qf D A ρs hc h0 (zML k) pc L S h := by
  obtain ⟨hx, hst, hb, hml, hown, hnm, hret, hlk, htb, hts, hT, hC, h55, hA, hR, hR2⟩ := C
  have q := (zPP_some q rfl).2
  obtain ⟨rfl, d, hr, h8⟩ := ev
  exact zs_sipush hx hb d hr h8 q
theorem zp_goto_w {x : Int} (C : zCx ML SR p l R s m args meth c D A ρs hc h0 h1 k lv y cc ret hh) (ev : zEv ML SR k y ret cc pc nx (.goto_w x)) (q : zPP p l e R s m args below meth c Qf D A ρs hc h0 h1 (zML k) nx (.goto_w x) L S h) : ZGo p l e R s m args below meth c Qf D A ρs hc h0 (zML k) pc L S h := by
  obtain ⟨hx, hst, hb, hml, hown, hnm, hret, hlk, htb, hts, hT, hC, h55, hA, hR, hR2⟩ := C
  have q := (zPP_some q rfl).2
  obtain ⟨rfl, hr, i, d, hw⟩ := ev
  exact zs_ldcI hx hb hown (hts _ hw) d hr q
theorem zp_jsr_w {x : Int} (C : zCx ML SR p l R s m args meth c D A ρs hc h0 h1 k lv y cc ret hh) (ev : zEv ML SR k y ret cc pc nx (.jsr_w x)) (q : zPP p l e R s m args below meth c Qf D A ρs hc h0 h1 (zML k) nx (.jsr_w x) L S h) : ZGo p l e R s m args below meth c Qf D A ρs hc h0 (zML k) pc L S h := by
  obtain ⟨hx, hst, hb, hml, hown, hnm, hret, hlk, htb, hts, hT, hC, h55, hA, hR, hR2⟩ := C
  have q := (zPP_some q rfl).2
  obtain ⟨rfl, hr, i, d, hw⟩ := ev
  exact zs_ldcwI hx hb hown (hts _ hw) d hr q
theorem zp_jsr {x : Int} (C : zCx ML SR p l R s m args meth c D A ρs hc h0 h1 k lv y cc ret hh) (ev : zEv ML SR k y ret cc pc nx (.jsr x)) (q : zPP p l e R s m args below meth c Qf D A ρs hc h0 h1 (zML k) nx (.jsr x) L S h) : ZGo p l e R s m args below meth c Qf D A ρs hc h0 (zML k) pc L S h := by
  obtain ⟨hx, hst, hb, hml, hown, hnm, hret, hlk, htb, hts, hT, hC, h55, hA, hR, hR2⟩ := C
  have q := (zPP_some q rfl).2
  obtain ⟨rfl, hr, i, d, hw⟩ := ev
  exact zs_ldc2 hx hb hown (hts _ hw) d hr q
theorem zp_lconst {x : Fin 2} (C : zCx ML SR p l R s m args meth c D A ρs hc h0 h1 k lv y cc ret hh) (ev : zEv ML SR k y ret cc pc nx (.lconst x)) (q : zPP p l e R s m args below meth c Qf D A ρs hc h0 h1 (zML k) nx (.lconst x) L S h) : ZGo p l e R s m args below meth c Qf D A ρs hc h0 (zML k) pc L S h := by
  obtain ⟨hx, hst, hb, hml, hown, hnm, hret, hlk, htb, hts, hT, hC, h55, hA, hR, hR2⟩ := C
  have q := (zPP_some q rfl).2
  obtain ⟨rfl, d⟩ := ev
  exact zs_lconst hx hb d q
theorem zp_null (C : zCx ML SR p l R s m args meth c D A ρs hc h0 h1 k lv y cc ret hh) (ev : zEv ML SR k y ret cc pc nx (.aconst_null)) (q : zPP p l e R s m args below meth c Qf D A ρs hc h0 h1 (zML k) nx (.aconst_null) L S h) : ZGo p l e R s m args below meth c Qf D A ρs hc h0 (zML k) pc L S h := by
  obtain ⟨hx, hst, hb, hml, hown, hnm, hret, hlk, htb, hts, hT, hC, h55, hA, hR, hR2⟩ := C
  have q := (zPP_some q rfl).2
  obtain ⟨rfl, d⟩ := ev
  exact zs_null hx hb d q
theorem zp_ldc {a : Nat} (C : zCx ML SR p l R s m args meth c D A ρs hc h0 h1 k lv y cc ret hh) (ev : zEv ML SR k y ret cc pc nx (.ldc a)) (q : zPP p l e R s m args below meth c Qf D A ρs hc h0 h1 (zML k) nx (.ldc a) L S h) : ZGo p l e R s m args below meth c Qf D A ρs hc h0 (zML k) pc L S h := by
  obtain ⟨hx, hst, hb, hml, hown, hnm, hret, hlk, htb, hts, hT, hC, h55, hA, hR, hR2⟩ := C
  have q := (zPP_some q rfl).2
  obtain ⟨rfl, i, tx, d, hw⟩ := ev
  exact zs_ldcS hx hb hown hC h55 hw (Or.inl ⟨d, rfl⟩) q
theorem zp_ldc_w {a : Nat} (C : zCx ML SR p l R s m args meth c D A ρs hc h0 h1 k lv y cc ret hh) (ev : zEv ML SR k y ret cc pc nx (.ldc_w a)) (q : zPP p l e R s m args below meth c Qf D A ρs hc h0 h1 (zML k) nx (.ldc_w a) L S h) : ZGo p l e R s m args below meth c Qf D A ρs hc h0 (zML k) pc L S h := by
  obtain ⟨hx, hst, hb, hml, hown, hnm, hret, hlk, htb, hts, hT, hC, h55, hA, hR, hR2⟩ := C
  have q := (zPP_some q rfl).2
  obtain ⟨rfl, i, tx, d, hw⟩ := ev
  exact zs_ldcS hx hb hown hC h55 hw (Or.inr ⟨d, rfl⟩) q
theorem zp_getstatic {a : Nat} (C : zCx ML SR p l R s m args meth c D A ρs hc h0 h1 k lv y cc ret hh) (ev : zEv ML SR k y ret cc pc nx (.getstatic a)) (q : zPP p l e R s m args below meth c Qf D A ρs hc h0 h1 (zML k) nx (.getstatic a) L S h) : ZGo p l e R s m args below meth c Qf D A ρs hc h0 (zML k) pc L S h := by
  obtain ⟨hx, hst, hb, hml, hown, hnm, hret, hlk, htb, hts, hT, hC, h55, hA, hR, hR2⟩ := C
  have q := (zPP_some q rfl).2
  obtain ⟨rfl, h9, i, d, hw⟩ := ev
  exact zs_gets hx hb hown hC h55 h9 (hts _ hw) d q
theorem zp_iadd (C : zCx ML SR p l R s m args meth c D A ρs hc h0 h1 k lv y cc ret hh) (ev : zEv ML SR k y ret cc pc nx (.iadd)) (q : zPP p l e R s m args below meth c Qf D A ρs hc h0 h1 (zML k) nx (.iadd) L S h) : ZGo p l e R s m args below meth c Qf D A ρs hc h0 (zML k) pc L S h := by
  obtain ⟨hx, hst, hb, hml, hown, hnm, hret, hlk, htb, hts, hT, hC, h55, hA, hR, hR2⟩ := C
  rcases S with _ | ⟨y0 | y0 | (_ | y0) | y0, S⟩
  · exact zPP_none q rfl
  rotate_left
  · exact zPP_none q rfl
  · exact zPP_none q rfl
  · exact zPP_none q rfl
  · exact zPP_none q rfl
  rcases S with _ | ⟨x0 | x0 | (_ | x0) | x0, S⟩
  · exact zPP_none q rfl
  rotate_left
  · exact zPP_none q rfl
  · exact zPP_none q rfl
  · exact zPP_none q rfl
  · exact zPP_none q rfl
  have q := (zPP_some q rfl).2
  obtain ⟨rfl, d⟩ := ev
  exact zs_iadd hx hb d q
theorem zp_isub (C : zCx ML SR p l R s m args meth c D A ρs hc h0 h1 k lv y cc ret hh) (ev : zEv ML SR k y ret cc pc nx (.isub)) (q : zPP p l e R s m args below meth c Qf D A ρs hc h0 h1 (zML k) nx (.isub) L S h) : ZGo p l e R s m args below meth c Qf D A ρs hc h0 (zML k) pc L S h := by
  obtain ⟨hx, hst, hb, hml, hown, hnm, hret, hlk, htb, hts, hT, hC, h55, hA, hR, hR2⟩ := C
  rcases S with _ | ⟨y0 | y0 | (_ | y0) | y0, S⟩
  · exact zPP_none q rfl
  rotate_left
  · exact zPP_none q rfl
  · exact zPP_none q rfl
  · exact zPP_none q rfl
  · exact zPP_none q rfl
  rcases S with _ | ⟨x0 | x0 | (_ | x0) | x0, S⟩
  · exact zPP_none q rfl
  rotate_left
  · exact zPP_none q rfl
  · exact zPP_none q rfl
  · exact zPP_none q rfl
  · exact zPP_none q rfl
  have q := (zPP_some q rfl).2
  obtain ⟨rfl, d⟩ := ev
  exact zs_isub hx hb d q
theorem zp_imul (C : zCx ML SR p l R s m args meth c D A ρs hc h0 h1 k lv y cc ret hh) (ev : zEv ML SR k y ret cc pc nx (.imul)) (q : zPP p l e R s m args below meth c Qf D A ρs hc h0 h1 (zML k) nx (.imul) L S h) : ZGo p l e R s m args below meth c Qf D A ρs hc h0 (zML k) pc L S h := by
  obtain ⟨hx, hst, hb, hml, hown, hnm, hret, hlk, htb, hts, hT, hC, h55, hA, hR, hR2⟩ := C
  rcases S with _ | ⟨y0 | y0 | (_ | y0) | y0, S⟩
  · exact zPP_none q rfl
  rotate_left
  · exact zPP_none q rfl
  · exact zPP_none q rfl
  · exact zPP_none q rfl
  · exact zPP_none q rfl
  rcases S with _ | ⟨x0 | x0 | (_ | x0) | x0, S⟩
  · exact zPP_none q rfl
  rotate_left
  · exact zPP_none q rfl
  · exact zPP_none q rfl
  · exact zPP_none q rfl
  · exact zPP_none q rfl
  have q := (zPP_some q rfl).2
  obtain ⟨rfl, d⟩ := ev
  exact zs_imul hx hb d q
theorem zp_iand (C : zCx ML SR p l R s m args meth c D A ρs hc h0 h1 k lv y cc ret hh) (ev : zEv ML SR k y ret cc pc nx (.iand)) (q : zPP p l e R s m args below meth c Qf D A ρs hc h0 h1 (zML k) nx (.iand) L S h) : ZGo p l e R s m args below meth c Qf D A ρs hc h0 (zML k) pc L S h := by
  obtain ⟨hx, hst, hb, hml, hown, hnm, hret, hlk, htb, hts, hT, hC, h55, hA, hR, hR2⟩ := C
  rcases S with _ | ⟨y0 | y0 | (_ | y0) | y0, S⟩
  · exact zPP_none q rfl
  rotate_left
  · exact zPP_none q rfl
  · exact zPP_none q rfl
  · exact zPP_none q rfl
  · exact zPP_none q rfl
  rcases S with _ | ⟨x0 | x0 | (_ | x0) | x0, S⟩
  · exact zPP_none q rfl
  rotate_left
  · exact zPP_none q rfl
  · exact zPP_none q rfl
  · exact zPP_none q rfl
  · exact zPP_none q rfl
  have q := (zPP_some q rfl).2
  obtain ⟨rfl, d⟩ := ev
  exact zs_iand hx hb d q
theorem zp_ior (C : zCx ML SR p l R s m args meth c D A ρs hc h0 h1 k lv y cc ret hh) (ev : zEv ML SR k y ret cc pc nx (.ior)) (q : zPP p l e R s m args below meth c Qf D A ρs hc h0 h1 (zML k) nx (.ior) L S h) : ZGo p l e R s m args below meth c Qf D A ρs hc h0 (zML k) pc L S h := by
  obtain ⟨hx, hst, hb, hml, hown, hnm, hret, hlk, htb, hts, hT, hC, h55, hA, hR, hR2⟩ := C
  rcases S with _ | ⟨y0 | y0 | (_ | y0) | y0, S⟩
  · exact zPP_none q rfl
  rotate_left
  · exact zPP_none q rfl
  · exact zPP_none q rfl
  · exact zPP_none q rfl
  · exact zPP_none q rfl
  rcases S with _ | ⟨x0 | x0 | (_ | x0) | x0, S⟩
  · exact zPP_none q rfl
  rotate_left
  · exact zPP_none q rfl
  · exact zPP_none q rfl
  · exact zPP_none q rfl
  · exact zPP_none q rfl
  have q := (zPP_some q rfl).2
  obtain ⟨rfl, d⟩ := ev
  exact zs_ior hx hb d q
theorem zp_ixor (C : zCx ML SR p l R s m args meth c D A ρs hc h0 h1 k lv y cc ret hh) (ev : zEv ML SR k y ret cc pc nx (.ixor)) (q : zPP p l e R s m args below meth c Qf D A ρs hc h0 h1 (zML k) nx (.ixor) L S h) : ZGo p l e R s m args below meth c Qf D A ρs hc h0 (zML k) pc L S h := by
  obtain ⟨hx, hst, hb, hml, hown, hnm, hret, hlk, htb, hts, hT, hC, h55, hA, hR, hR2⟩ := C
  rcases S with _ | ⟨y0 | y0 | (_ | y0) | y0, S⟩
  · exact zPP_none q rfl
  rotate_left
  · exact zPP_none q rfl
  · exact zPP_none q rfl
  · exact zPP_none q rfl
  · exact zPP_none q rfl
  rcases S with _ | ⟨x0 | x0 | (_ | x0) | x0, S⟩
  · exact zPP_none q rfl
  rotate_left
  · exact zPP_none q rfl
  · exact zPP_none q rfl
  · exact zPP_none q rfl
  · exact zPP_none q rfl
  have q := (zPP_some q rfl).2
  obtain ⟨rfl, d⟩ := ev
  exact zs_ixor hx hb d q
theorem zp_ishl (C : zCx ML SR p l R s m args meth c D A ρs hc h0 h1 k lv y cc ret hh) (ev : zEv ML SR k y ret cc pc nx (.ishl)) (q : zPP p l e R s m args below meth c Qf D A ρs hc h0 h1 (zML k) nx (.ishl) L S h) : ZGo p l e R s m args below meth c Qf D A ρs hc h0 (zML k) pc L S h := by
  obtain ⟨hx, hst, hb, hml, hown, hnm, hret, hlk, htb, hts, hT, hC, h55, hA, hR, hR2⟩ := C
  rcases S with _ | ⟨y0 | y0 | (_ | y0) | y0, S⟩
  · exact zPP_none q rfl
  rotate_left
  · exact zPP_none q rfl
  · exact zPP_none q rfl
  · exact zPP_none q rfl
  · exact zPP_none q rfl
  rcases S with _ | ⟨x0 | x0 | (_ | x0) | x0, S⟩
  · exact zPP_none q rfl
  rotate_left
  · exact zPP_none q rfl
  · exact zPP_none q rfl
  · exact zPP_none q rfl
  · exact zPP_none q rfl
  have q := (zPP_some q rfl).2
  obtain ⟨rfl, d⟩ := ev
  exact zs_ishl hx hb d q
theorem zp_ishr (C : zCx ML SR p l R s m args meth c D A ρs hc h0 h1 k lv y cc ret hh) (ev : zEv ML SR k y ret cc pc nx (.ishr)) (q : zPP p l e R s m args below meth c Qf D A ρs hc h0 h1 (zML k) nx (.ishr) L S h) : ZGo p l e R s m args below meth c Qf D A ρs hc h0 (zML k) pc L S h := by
  obtain ⟨hx, hst, hb, hml, hown, hnm, hret, hlk, htb, hts, hT, hC, h55, hA, hR, hR2⟩ := C
  rcases S with _ | ⟨y0 | y0 | (_ | y0) | y0, S⟩
  · exact zPP_none q rfl
  rotate_left
  · exact zPP_none q rfl
  · exact zPP_none q rfl
  · exact zPP_none q rfl
  · exact zPP_none q rfl
  rcases S with _ | ⟨x0 | x0 | (_ | x0) | x0, S⟩
  · exact zPP_none q rfl
  rotate_left
  · exact zPP_none q rfl
  · exact zPP_none q rfl
  · exact zPP_none q rfl
  · exact zPP_none q rfl
  have q := (zPP_some q rfl).2
  obtain ⟨rfl, d⟩ := ev
  exact zs_ishr hx hb d q
theorem zp_iushr (C : zCx ML SR p l R s m args meth c D A ρs hc h0 h1 k lv y cc ret hh) (ev : zEv ML SR k y ret cc pc nx (.iushr)) (q : zPP p l e R s m args below meth c Qf D A ρs hc h0 h1 (zML k) nx (.iushr) L S h) : ZGo p l e R s m args below meth c Qf D A ρs hc h0 (zML k) pc L S h := by
  obtain ⟨hx, hst, hb, hml, hown, hnm, hret, hlk, htb, hts, hT, hC, h55, hA, hR, hR2⟩ := C
  rcases S with _ | ⟨y0 | y0 | (_ | y0) | y0, S⟩
  · exact zPP_none q rfl
  rotate_left
  · exact zPP_none q rfl
  · exact zPP_none q rfl
  · exact zPP_none q rfl
  · exact zPP_none q rfl
  rcases S with _ | ⟨x0 | x0 | (_ | x0) | x0, S⟩
  · exact zPP_none q rfl
  rotate_left
  · exact zPP_none q rfl
  · exact zPP_none q rfl
  · exact zPP_none q rfl
  · exact zPP_none q rfl
  have q := (zPP_some q rfl).2
  obtain ⟨rfl, d⟩ := ev
  exact zs_iushr hx hb d q
theorem zp_idiv (C : zCx ML SR p l R s m args meth c D A ρs hc h0 h1 k lv y cc ret hh) (ev : zEv ML SR k y ret cc pc nx (.idiv)) (q : zPP p l e R s m args below meth c Qf D A ρs hc h0 h1 (zML k) nx (.idiv) L S h) : ZGo p l e R s m args below meth c Qf D A ρs hc h0 (zML k) pc L S h := by
  obtain ⟨hx, hst, hb, hml, hown, hnm, hret, hlk, htb, hts, hT, hC, h55, hA, hR, hR2⟩ := C
  rcases S with _ | ⟨y0 | y0 | (_ | y0) | y0, S⟩
  · exact zPP_none q rfl
  rotate_left
  · exact zPP_none q rfl
  · exact zPP_none q rfl
  · exact zPP_none q rfl
  · exact zPP_none q rfl
  rcases S with _ | ⟨x0 | x0 | (_ | x0) | x0, S⟩
  · exact zPP_none q rfl
  rotate_left
  · exact zPP_none q rfl
  · exact zPP_none q rfl
  · exact zPP_none q rfl
  · exact zPP_none q rfl
  by_cases hz : y0 = 0
  · exact zPP_none q (if_pos hz)
  have q := (zPP_some q (if_neg hz)).2
  obtain ⟨rfl, d⟩ := ev
  exact zs_idiv hx hb d hz q
theorem zp_irem (C : zCx ML SR p l R s m args meth c D A ρs hc h0 h1 k lv y cc ret hh) (ev : zEv ML SR k y ret cc pc nx (.irem)) (q : zPP p l e R s m args below meth c Qf D A ρs hc h0 h1 (zML k) nx (.irem) L S h) : ZGo p l e R s m args below meth c Qf D A ρs hc h0 (zML k) pc L S h := by
  obtain ⟨hx, hst, hb, hml, hown, hnm, hret, hlk, htb, hts, hT, hC, h55, hA, hR, hR2⟩ := C
  rcases S with _ | ⟨y0 | y0 | (_ | y0) | y0, S⟩
  · exact zPP_none q rfl
  rotate_left
  · exact zPP_none q rfl
  · exact zPP_none q rfl
  · exact zPP_none q rfl
  · exact zPP_none q rfl
  rcases S with _ | ⟨x0 | x0 | (_ | x0) | x0, S⟩
  · exact zPP_none q rfl
  rotate_left
  · exact zPP_none q rfl
  · exact zPP_none q rfl
  · exact zPP_none q rfl
  · exact zPP_none q rfl
  by_cases hz : y0 = 0
  · exact zPP_none q (if_pos hz)
  have q := (zPP_some q (if_neg hz)).2
  obtain ⟨rfl, d⟩ := ev
  exact zs_irem hx hb d hz q
theorem zp_ineg (C : zCx ML SR p l R s m args meth c D A ρs hc h0 h1 k lv y cc ret hh) (ev : zEv ML SR k y ret cc pc nx (.ineg)) (q : zPP p l e R s m args below meth c Qf D A ρs hc h0 h1 (zML k) nx (.ineg) L S h) : ZGo p l e R s m args below meth c Qf D A ρs hc h0 (zML k) pc L S h := by
  obtain ⟨hx, hst, hb, hml, hown, hnm, hret, hlk, htb, hts, hT, hC, h55, hA, hR, hR2⟩ := C
  rcases S with _ | ⟨x0 | x0 | (_ | x0) | x0, S⟩
  · exact zPP_none q rfl
  rotate_left
  · exact zPP_none q rfl
  · exact zPP_none q rfl
  · exact zPP_none q rfl
  · exact zPP_none q rfl
  have q := (zPP_some q rfl).2
  obtain ⟨rfl, d⟩ := ev
  exact zs_ineg hx hb d q
theorem zp_i2l (C : zCx ML SR p l R s m args meth c D A ρs hc h0 h1 k lv y cc ret hh) (ev : zEv ML SR k y ret cc pc nx (.i2l)) (q : zPP p l e R s m args below meth c Qf D A ρs hc h0 h1 (zML k) nx (.i2l) L S h) : ZGo p l e R s m args below meth c Qf D A ρs hc h0 (zML k) pc L S h := by
  obtain ⟨hx, hst, hb, hml, hown, hnm, hret, hlk, htb, hts, hT, hC, h55, hA, hR, hR2⟩ := C
  rcases S with _ | ⟨x0 | x0 | (_ | x0) | x0, S⟩
  · exact zPP_none q rfl
  rotate_left
  · exact zPP_none q rfl
  · exact zPP_none q rfl
  · exact zPP_none q rfl
  · exact zPP_none q rfl
  have q := (zPP_some q rfl).2
  obtain ⟨rfl, d⟩ := ev
  exact zs_i2l hx hb d q
theorem zp_i2b (C : zCx ML SR p l R s m args meth c D A ρs hc h0 h1 k lv y cc ret hh) (ev : zEv ML SR k y ret cc pc nx (.i2b)) (q : zPP p l e R s m args below meth c Qf D A ρs hc h0 h1 (zML k) nx (.i2b) L S h) : ZGo p l e R s m args below meth c Qf D A ρs hc h0 (zML k) pc L S h := by
  obtain ⟨hx, hst, hb, hml, hown, hnm, hret, hlk, htb, hts, hT, hC, h55, hA, hR, hR2⟩ := C
  rcases S with _ | ⟨x0 | x0 | (_ | x0) | x0, S⟩
  · exact zPP_none q rfl
  rotate_left
  · exact zPP_none q rfl
  · exact zPP_none q rfl
  · exact zPP_none q rfl
  · exact zPP_none q rfl
  have q := (zPP_some q rfl).2
  obtain ⟨rfl, d⟩ := ev
  exact zs_i2b hx hb d q
theorem zp_i2c (C : zCx ML SR p l R s m args meth c D A ρs hc h0 h1 k lv y cc ret hh) (ev : zEv ML SR k y ret cc pc nx (.i2c)) (q : zPP p l e R s m args below meth c Qf D A ρs hc h0 h1 (zML k) nx (.i2c) L S h) : ZGo p l e R s m args below meth c Qf D A ρs hc h0 (zML k) pc L S h := by
  obtain ⟨hx, hst, hb, hml, hown, hnm, hret, hlk, htb, hts, hT, hC, h55, hA, hR, hR2⟩ := C
  rcases S with _ | ⟨x0 | x0 | (_ | x0) | x0, S⟩
  · exact zPP_none q rfl
  rotate_left
  · exact zPP_none q rfl
  · exact zPP_none q rfl
  · exact zPP_none q rfl
  · exact zPP_none q rfl
  have q := (zPP_some q rfl).2
  obtain ⟨rfl, d⟩ := ev
  exact zs_i2c hx hb d q
theorem zp_l2i (C : zCx ML SR p l R s m args meth c D A ρs hc h0 h1 k lv y cc ret hh) (ev : zEv ML SR k y ret cc pc nx (.l2i)) (q : zPP p l e R s m args below meth c Qf D A ρs hc h0 h1 (zML k) nx (.l2i) L S h) : ZGo p l e R s m args below meth c Qf D A ρs hc h0 (zML k) pc L S h := by
  obtain ⟨hx, hst, hb, hml, hown, hnm, hret, hlk, htb, hts, hT, hC, h55, hA, hR, hR2⟩ := C
  rcases S with _ | ⟨x0 | x0 | (_ | x0) | x0, S⟩
  · exact zPP_none q rfl
  · exact zPP_none q rfl
  rotate_left
  · exact zPP_none q rfl
  · exact zPP_none q rfl
  · exact zPP_none q rfl
  have q := (zPP_some q rfl).2
  obtain ⟨rfl, d⟩ := ev
  exact zs_l2i hx hb d q
theorem zp_ladd (C : zCx ML SR p l R s m args meth c D A ρs hc h0 h1 k lv y cc ret hh) (ev : zEv ML SR k y ret cc pc nx (.ladd)) (q : zPP p l e R s m args below meth c Qf D A ρs hc h0 h1 (zML k) nx (.ladd) L S h) : ZGo p l e R s m args below meth c Qf D A ρs hc h0 (zML k) pc L S h := by
  obtain ⟨hx, hst, hb, hml, hown, hnm, hret, hlk, htb, hts, hT, hC, h55, hA, hR, hR2⟩ := C
  rcases S with _ | ⟨y0 | y0 | (_ | y0) | y0, S⟩
  · exact zPP_none q rfl
  · exact zPP_none q rfl
  rotate_left
  · exact zPP_none q rfl
  · exact zPP_none q rfl
  · exact zPP_none q rfl
  rcases S with _ | ⟨x0 | x0 | (_ | x0) | x0, S⟩
  · exact zPP_none q rfl
  · exact zPP_none q rfl
  rotate_left
  · exact zPP_none q rfl
  · exact zPP_none q rfl
  · exact zPP_none q rfl
  have q := (zPP_some q rfl).2
  obtain ⟨rfl, d⟩ := ev
  exact zs_ladd hx hb d q
theorem zp_lsub (C : zCx ML SR p l R s m args meth c D A ρs hc h0 h1 k lv y cc ret hh) (ev : zEv ML SR k y ret cc pc nx (.lsub)) (q : zPP p l e R s m args below meth c Qf D A ρs hc h0 h1 (zML k) nx (.lsub) L S h) : ZGo p l e R s m args below meth c Qf D A ρs hc h0 (zML k) pc L S h := by
  obtain ⟨hx, hst, hb, hml, hown, hnm, hret, hlk, htb, hts, hT, hC, h55, hA, hR, hR2⟩ := C
  rcases S with _ | ⟨y0 | y0 | (_ | y0) | y0, S⟩
  · exact zPP_none q rfl
  · exact zPP_none q rfl
  rotate_left
  · exact zPP_none q rfl
  · exact zPP_none q rfl
  · exact zPP_none q rfl
  rcases S with _ | ⟨x0 | x0 | (_ | x0) | x0, S⟩
  · exact zPP_none q rfl
  · exact zPP_none q rfl
  rotate_left
  · exact zPP_none q rfl
  · exact zPP_none q rfl
  · exact zPP_none q rfl
  have q := (zPP_some q rfl).2
  obtain ⟨rfl, d⟩ := ev
  exact zs_lsub hx hb d q
theorem zp_lmul (C : zCx ML SR p l R s m args meth c D A ρs hc h0 h1 k lv y cc ret hh) (ev : zEv ML SR k y ret cc pc nx (.lmul)) (q : zPP p l e R s m args below meth c Qf D A ρs hc h0 h1 (zML k) nx (.lmul) L S h) : ZGo p l e R s m args below meth c Qf D A ρs hc h0 (zML k) pc L S h := by
  obtain ⟨hx, hst, hb, hml, hown, hnm, hret, hlk, htb, hts, hT, hC, h55, hA, hR, hR2⟩ := C
  rcases S with _ | ⟨y0 | y0 | (_ | y0) | y0, S⟩
  · exact zPP_none q rfl
  · exact zPP_none q rfl
  rotate_left
  · exact zPP_none q rfl
  · exact zPP_none q rfl
  · exact zPP_none q rfl
  rcases S with _ | ⟨x0 | x0 | (_ | x0) | x0, S⟩
  · exact zPP_none q rfl
  · exact zPP_none q rfl
  rotate_left
  · exact zPP_none q rfl
  · exact zPP_none q rfl
  · exact zPP_none q rfl
  have q := (zPP_some q rfl).2
  obtain ⟨rfl, d⟩ := ev
  exact zs_lmul hx hb d q
theorem zp_land (C : zCx ML SR p l R s m args meth c D A ρs hc h0 h1 k lv y cc ret hh) (ev : zEv ML SR k y ret cc pc nx (.land)) (q : zPP p l e R s m args below meth c Qf D A ρs hc h0 h1 (zML k) nx (.land) L S h) : ZGo p l e R s m args below meth c Qf D A ρs hc h0 (zML k) pc L S h := by
  obtain ⟨hx, hst, hb, hml, hown, hnm, hret, hlk, htb, hts, hT, hC, h55, hA, hR, hR2⟩ := C
  rcases S with _ | ⟨y0 | y0 | (_ | y0) | y0, S⟩
  · exact zPP_none q rfl
  · exact zPP_none q rfl
  rotate_left
  · exact zPP_none q rfl
  · exact zPP_none q rfl
  · exact zPP_none q rfl
  rcases S with _ | ⟨x0 | x0 | (_ | x0) | x0, S⟩
  · exact zPP_none q rfl
  · exact zPP_none q rfl
  rotate_left
  · exact zPP_none q rfl
  · exact zPP_none q rfl
  · exact zPP_none q rfl
  have q := (zPP_some q rfl).2
  obtain ⟨rfl, d⟩ := ev
  exact zs_land hx hb d q
theorem zp_lor (C : zCx ML SR p l R s m args meth c D A ρs hc h0 h1 k lv y cc ret hh) (ev : zEv ML SR k y ret cc pc nx (.lor)) (q : zPP p l e R s m args below meth c Qf D A ρs hc h0 h1 (zML k) nx (.lor) L S h) : ZGo p l e R s m args below meth c Qf D A ρs hc h0 (zML k) pc L S h := by
  obtain ⟨hx, hst, hb, hml, hown, hnm, hret, hlk, htb, hts, hT, hC, h55, hA, hR, hR2⟩ := C
  rcases S with _ | ⟨y0 | y0 | (_ | y0) | y0, S⟩
  · exact zPP_none q rfl
  · exact zPP_none q rfl
  rotate_left
  · exact zPP_none q rfl
  · exact zPP_none q rfl
  · exact zPP_none q rfl
  rcases S with _ | ⟨x0 | x0 | (_ | x0) | x0, S⟩
  · exact zPP_none q rfl
  · exact zPP_none q rfl
  rotate_left
  · exact zPP_none q rfl
  · exact zPP_none q rfl
  · exact zPP_none q rfl
  have q := (zPP_some q rfl).2
  obtain ⟨rfl, d⟩ := ev
  exact zs_lor hx hb d q
theorem zp_lxor (C : zCx ML SR p l R s m args meth c D A ρs hc h0 h1 k lv y cc ret hh) (ev : zEv ML SR k y ret cc pc nx (.lxor)) (q : zPP p l e R s m args below meth c Qf D A ρs hc h0 h1 (zML k) nx (.lxor) L S h) : ZGo p l e R s m args below meth c Qf D A ρs hc h0 (zML k) pc L S h := by
  obtain ⟨hx, hst, hb, hml, hown, hnm, hret, hlk, htb, hts, hT, hC, h55, hA, hR, hR2⟩ := C
  rcases S with _ | ⟨y0 | y0 | (_ | y0) | y0, S⟩
  · exact zPP_none q rfl
  · exact zPP_none q rfl
  rotate_left
  · exact zPP_none q rfl
  · exact zPP_none q rfl
  · exact zPP_none q rfl
  rcases S with _ | ⟨x0 | x0 | (_ | x0) | x0, S⟩
  · exact zPP_none q rfl
  · exact zPP_none q rfl
  rotate_left
  · exact zPP_none q rfl
  · exact zPP_none q rfl
  · exact zPP_none q rfl
  have q := (zPP_some q rfl).2
  obtain ⟨rfl, d⟩ := ev
  exact zs_lxor hx hb d q
theorem zp_lcmp (C : zCx ML SR p l R s m args meth c D A ρs hc h0 h1 k lv y cc ret hh) (ev : zEv ML SR k y ret cc pc nx (.lcmp)) (q : zPP p l e R s m args below meth c Qf D A ρs hc h0 h1 (zML k) nx (.lcmp) L S h) : ZGo p l e R s m args below meth c Qf D A ρs hc h0 (zML k) pc L S h := by
  obtain ⟨hx, hst, hb, hml, hown, hnm, hret, hlk, htb, hts, hT, hC, h55, hA, hR, hR2⟩ := C
  rcases S with _ | ⟨y0 | y0 | (_ | y0) | y0, S⟩
  · exact zPP_none q rfl
  · exact zPP_none q rfl
  rotate_left
  · exact zPP_none q rfl
  · exact zPP_none q rfl
  · exact zPP_none q rfl
  rcases S with _ | ⟨x0 | x0 | (_ | x0) | x0, S⟩
  · exact zPP_none q rfl
  · exact zPP_none q rfl
  rotate_left
  · exact zPP_none q rfl
  · exact zPP_none q rfl
  · exact zPP_none q rfl
  have q := (zPP_some q rfl).2
  obtain ⟨rfl, d⟩ := ev
  exact zs_lcmp hx hb d q
theorem zp_lshl (C : zCx ML SR p l R s m args meth c D A ρs hc h0 h1 k lv y cc ret hh) (ev : zEv ML SR k y ret cc pc nx (.lshl)) (q : zPP p l e R s m args below meth c Qf D A ρs hc h0 h1 (zML k) nx (.lshl) L S h) : ZGo p l e R s m args below meth c Qf D A ρs hc h0 (zML k) pc L S h := by
  obtain ⟨hx, hst, hb, hml, hown, hnm, hret, hlk, htb, hts, hT, hC, h55, hA, hR, hR2⟩ := C
  rcases S with _ | ⟨y0 | y0 | (_ | y0) | y0, S⟩
  · exact zPP_none q rfl
  rotate_left
  · exact zPP_none q rfl
  · exact zPP_none q rfl
  · exact zPP_none q rfl
  · exact zPP_none q rfl
  rcases S with _ | ⟨x0 | x0 | (_ | x0) | x0, S⟩
  · exact zPP_none q rfl
  · exact zPP_none q rfl
  rotate_left
  · exact zPP_none q rfl
  · exact zPP_none q rfl
  · exact zPP_none q rfl
  have q := (zPP_some q rfl).2
  obtain ⟨rfl, d⟩ := ev
  exact zs_lshl hx hb d q
theorem zp_lushr (C : zCx ML SR p l R s m args meth c D A ρs hc h0 h1 k lv y cc ret hh) (ev : zEv ML SR k y ret cc pc nx (.lushr)) (q : zPP p l e R s m args below meth c Qf D A ρs hc h0 h1 (zML k) nx (.lushr) L S h) : ZGo p l e R s m args below meth c Qf D A ρs hc h0 (zML k) pc L S h := by
  obtain ⟨hx, hst, hb, hml, hown, hnm, hret, hlk, htb, hts, hT, hC, h55, hA, hR, hR2⟩ := C
  rcases S with _ | ⟨y0 | y0 | (_ | y0) | y0, S⟩
  · exact zPP_none q rfl
  rotate_left
  · exact zPP_none q rfl
  · exact zPP_none q rfl
  · exact zPP_none q rfl
  · exact zPP_none q rfl
  rcases S with _ | ⟨x0 | x0 | (_ | x0) | x0, S⟩
  · exact zPP_none q rfl
  · exact zPP_none q rfl
  rotate_left
  · exact zPP_none q rfl
  · exact zPP_none q rfl
  · exact zPP_none q rfl
  have q := (zPP_some q rfl).2
  obtain ⟨rfl, d⟩ := ev
  exact zs_lushr hx hb d q
theorem zp_dup (C : zCx ML SR p l R s m args meth c D A ρs hc h0 h1 k lv y cc ret hh) (ev : zEv ML SR k y ret cc pc nx (.dup)) (q : zPP p l e R s m args below meth c Qf D A ρs hc h0 h1 (zML k) nx (.dup) L S h) : ZGo p l e R s m args below meth c Qf D A ρs hc h0 (zML k) pc L S h := by
  obtain ⟨hx, hst, hb, hml, hown, hnm, hret, hlk, htb, hts, hT, hC, h55, hA, hR, hR2⟩ := C
  obtain ⟨rfl, d⟩ := ev
  rcases S with _ | ⟨x | x | x | x, S⟩
  · exact zPP_none q rfl
  · exact zs_dup hx hb (fun x z => by cases z) d (zPP_some q rfl).2
  · exact zPP_none q rfl
  · exact zs_dup hx hb (fun x z => by cases z) d (zPP_some q rfl).2
  · exact zPP_none q rfl
theorem zp_dup_x1 (C : zCx ML SR p l R s m args meth c D A ρs hc h0 h1 k lv y cc ret hh) (ev : zEv ML SR k y ret cc pc nx (.dup_x1)) (q : zPP p l e R s m args below meth c Qf D A ρs hc h0 h1 (zML k) nx (.dup_x1) L S h) : ZGo p l e R s m args below meth c Qf D A ρs hc h0 (zML k) pc L S h := by
  obtain ⟨hx, hst, hb, hml, hown, hnm, hret, hlk, htb, hts, hT, hC, h55, hA, hR, hR2⟩ := C
  obtain ⟨rfl, d⟩ := ev
  rcases S with _ | ⟨x | x | x | x, _ | ⟨z | z | z | z, S⟩⟩ <;> first | (exact zPP_none q rfl) | (exact zs_dup_x1 hx hb (fun x z => by cases z) (fun x z => by cases z) d (zPP_some q rfl).2)
theorem zp_dup2 (C : zCx ML SR p l R s m args meth c D A ρs hc h0 h1 k lv y cc ret hh) (ev : zEv ML SR k y ret cc pc nx (.dup2)) (q : zPP p l e R s m args below meth c Qf D A ρs hc h0 h1 (zML k) nx (.dup2) L S h) : ZGo p l e R s m args below meth c Qf D A ρs hc h0 (zML k) pc L S h := by
  obtain ⟨hx, hst, hb, hml, hown, hnm, hret, hlk, htb, hts, hT, hC, h55, hA, hR, hR2⟩ := C
  obtain ⟨rfl, d⟩ := ev
  rcases S with _ | ⟨x | x | x | x, _ | ⟨z | z | z | z, S⟩⟩ <;> first | (exact zPP_none q rfl) | (exact zs_dup2l hx hb d (zPP_some q rfl).2) | (exact zs_dup2 hx hb (fun x z => by cases z) (fun x z => by cases z) d (zPP_some q rfl).2)
theorem zp_pop (C : zCx ML SR p l R s m args meth c D A ρs hc h0 h1 k lv y cc ret hh) (ev : zEv ML SR k y ret cc pc nx (.pop)) (q : zPP p l e R s m args below meth c Qf D A ρs hc h0 h1 (zML k) nx (.pop) L S h) : ZGo p l e R s m args below meth c Qf D A ρs hc h0 (zML k) pc L S h := by
  obtain ⟨hx, hst, hb, hml, hown, hnm, hret, hlk, htb, hts, hT, hC, h55, hA, hR, hR2⟩ := C
  obtain ⟨rfl, d⟩ := ev
  rcases S with _ | ⟨x | x | x | x, S⟩ <;> first | (exact zPP_none q rfl) | (exact zs_pop hx hb (fun x z => by cases z) d (zPP_some q rfl).2)
theorem zp_pop2 (C : zCx ML SR p l R s m args meth c D A ρs hc h0 h1 k lv y cc ret hh) (ev : zEv ML SR k y ret cc pc nx (.pop2)) (q : zPP p l e R s m args below meth c Qf D A ρs hc h0 h1 (zML k) nx (.pop2) L S h) : ZGo p l e R s m args below meth c Qf D A ρs hc h0 (zML k) pc L S h := by
  obtain ⟨hx, hst, hb, hml, hown, hnm, hret, hlk, htb, hts, hT, hC, h55, hA, hR, hR2⟩ := C
  rcases S with _ | ⟨a | a | (_ | a) | a, S⟩
  · exact zPP_none q rfl
  · exact zPP_none q rfl
  · exact zPP_none q rfl
  · exact zPP_none q rfl
  rotate_left
  · exact zPP_none q rfl
  by_cases hz : zw S ≤ 8 ∧ zNC ≤ a
  · have q := (zPP_some q (if_pos hz)).2
    obtain ⟨rfl, i, d, hw⟩ := ev
    refine ZGo_low fun hlow hok1 _ _ => ?_
    exact zs_obj hx hb hown (hts _ hw) (hts _ zObj1) (hts _ zObj2) hml (by omega) (by omega) hz.1 hz.2 d q
  · exact zPP_none q (if_neg hz)
theorem zp_goto {t : Int} (C : zCx ML SR p l R s m args meth c D A ρs hc h0 h1 k lv y cc ret hh) (ev : zEv ML SR k y ret cc pc nx (.goto t)) (q : zPP p l e R s m args below meth c Qf D A ρs hc h0 h1 (zML k) nx (.goto t) L S h) : ZGo p l e R s m args below meth c Qf D A ρs hc h0 (zML k) pc L S h := by
  obtain ⟨hx, hst, hb, hml, hown, hnm, hret, hlk, htb, hts, hT, hC, h55, hA, hR, hR2⟩ := C
  have q := (zPP_some q rfl).2
  obtain ⟨off, d, h2, h3⟩ := ev
  exact zs_goto (t := t.toNat) hx hb d (by omega) q
theorem zp_if_eq {t : Int} (C : zCx ML SR p l R s m args meth c D A ρs hc h0 h1 k lv y cc ret hh) (ev : zEv ML SR k y ret cc pc nx (.ifCond .eq t)) (q : zPP p l e R s m args below meth c Qf D A ρs hc h0 h1 (zML k) nx (.ifCond .eq t) L S h) : ZGo p l e R s m args below meth c Qf D A ρs hc h0 (zML k) pc L S h := by
  obtain ⟨hx, hst, hb, hml, hown, hnm, hret, hlk, htb, hts, hT, hC, h55, hA, hR, hR2⟩ := C
  rcases S with _ | ⟨x | x | (_ | x) | x, S⟩
  · exact zPP_none q rfl
  rotate_left
  · exact zPP_none q rfl
  · exact zPP_none q rfl
  · exact zPP_none q rfl
  · exact zPP_none q rfl
  obtain ⟨rfl, off, d, h2, h3⟩ := ev
  exact zs_if_eq hx hb d (t := t.toNat) (by omega) (fun z => (zPP_some q (if_pos z)).2) (fun z => (zPP_some q (if_neg z)).2)
theorem zp_icmp_eq {t : Int} (C : zCx ML SR p l R s m args meth c D A ρs hc h0 h1 k lv y cc ret hh) (ev : zEv ML SR k y ret cc pc nx (.if_icmp .eq t)) (q : zPP p l e R s m args below meth c Qf D A ρs hc h0 h1 (zML k) nx (.if_icmp .eq t) L S h) : ZGo p l e R s m args below meth c Qf D A ρs hc h0 (zML k) pc L S h := by
  obtain ⟨hx, hst, hb, hml, hown, hnm, hret, hlk, htb, hts, hT, hC, h55, hA, hR, hR2⟩ := C
  rcases S with _ | ⟨y0 | y0 | (_ | y0) | y0, S⟩
  · exact zPP_none q rfl
  rotate_left
  · exact zPP_none q rfl
  · exact zPP_none q rfl
  · exact zPP_none q rfl
  · exact zPP_none q rfl
  rcases S with _ | ⟨x0 | x0 | (_ | x0) | x0, S⟩
  · exact zPP_none q rfl
  rotate_left
  · exact zPP_none q rfl
  · exact zPP_none q rfl
  · exact zPP_none q rfl
  · exact zPP_none q rfl
  obtain ⟨rfl, off, d, h2, h3⟩ := ev
  exact zs_icmp_eq hx hb d (t := t.toNat) (by omega) (fun z => (zPP_some q (if_pos z)).2) (fun z => (zPP_some q (if_neg z)).2)
theorem zp_if_ne {t : Int} (C : zCx ML SR p l R s m args meth c D A ρs hc h0 h1 k lv y cc ret hh) (ev : zEv ML SR k y ret cc pc nx (.ifCond .ne t)) (q : zPP p l e R s m args below meth c Qf D A ρs hc h0 h1 (zML k) nx (.ifCond .ne t) L S h) : ZGo p l e R s m args below meth c Qf D A ρs hc h0 (zML k) pc L S h := by
  obtain ⟨hx, hst, hb, hml, hown, hnm, hret, hlk, htb, hts, hT, hC, h55, hA, hR, hR2⟩ := C
  rcases S with _ | ⟨x | x | (_ | x) | x, S⟩
  · exact zPP_none q rfl
  rotate_left
  · exact zPP_none q rfl
  · exact zPP_none q rfl
  · exact zPP_none q rfl
  · exact zPP_none q rfl
  obtain ⟨rfl, off, d, h2, h3⟩ := ev
  exact zs_if_ne hx hb d (t := t.toNat) (by omega) (fun z => (zPP_some q (if_pos z)).2) (fun z => (zPP_some q (if_neg z)).2)
theorem zp_icmp_ne {t : Int} (C : zCx ML SR p l R s m args meth c D A ρs hc h0 h1 k lv y cc ret hh) (ev : zEv ML SR k y ret cc pc nx (.if_icmp .ne t)) (q : zPP p l e R s m args below meth c Qf D A ρs hc h0 h1 (zML k) nx (.if_icmp .ne t) L S h) : ZGo p l e R s m args below meth c Qf D A ρs hc h0 (zML k) pc L S h := by
  obtain ⟨hx, hst, hb, hml, hown, hnm, hret, hlk, htb, hts, hT, hC, h55, hA, hR, hR2⟩ := C
  rcases S with _ | ⟨y0 | y0 | (_ | y0) | y0, S⟩
  · exact zPP_none q rfl
  rotate_left
  · exact zPP_none q rfl
  · exact zPP_none q rfl
  · exact zPP_none q rfl
  · exact zPP_none q rfl
  rcases S with _ | ⟨x0 | x0 | (_ | x0) | x0, S⟩
  · exact zPP_none q rfl
  rotate_left
  · exact zPP_none q rfl
  · exact zPP_none q rfl
  · exact zPP_none q rfl
  · exact zPP_none q rfl
  obtain ⟨rfl, off, d, h2, h3⟩ := ev
  exact zs_icmp_ne hx hb d (t := t.toNat) (by omega) (fun z => (zPP_some q (if_pos z)).2) (fun z => (zPP_some q (if_neg z)).2)
theorem zp_if_lt {t : Int} (C : zCx ML SR p l R s m args meth c D A ρs hc h0 h1 k lv y cc ret hh) (ev : zEv ML SR k y ret cc pc nx (.ifCond .lt t)) (q : zPP p l e R s m args below meth c Qf D A ρs hc h0 h1 (zML k) nx (.ifCond .lt t) L S h) : ZGo p l e R s m args below meth c Qf D A ρs hc h0 (zML k) pc L S h := by
  obtain ⟨hx, hst, hb, hml, hown, hnm, hret, hlk, htb, hts, hT, hC, h55, hA, hR, hR2⟩ := C
  rcases S with _ | ⟨x | x | (_ | x) | x, S⟩
  · exact zPP_none q rfl
  rotate_left
  · exact zPP_none q rfl
  · exact zPP_none q rfl
  · exact zPP_none q rfl
  · exact zPP_none q rfl
  obtain ⟨rfl, off, d, h2, h3⟩ := ev
  exact zs_if_lt hx hb d (t := t.toNat) (by omega) (fun z => (zPP_some q (if_pos z)).2) (fun z => (zPP_some q (if_neg z)).2)
theorem zp_icmp_lt {t : Int} (C : zCx ML SR p l R s m args meth c D A ρs hc h0 h1 k lv y cc ret hh) (ev : zEv ML SR k y ret cc pc nx (.if_icmp .lt t)) (q : zPP p l e R s m args below meth c Qf D A ρs hc h0 h1 (zML k) nx (.if_icmp .lt t) L S h) : ZGo p l e R s m args below meth c Qf D A ρs hc h0 (zML k) pc L S h := by
  obtain ⟨hx, hst, hb, hml, hown, hnm, hret, hlk, htb, hts, hT, hC, h55, hA, hR, hR2⟩ := C
  rcases S with _ | ⟨y0 | y0 | (_ | y0) | y0, S⟩
  · exact zPP_none q rfl
  rotate_left
  · exact zPP_none q rfl
  · exact zPP_none q rfl
  · exact zPP_none q rfl
  · exact zPP_none q rfl
  rcases S with _ | ⟨x0 | x0 | (_ | x0) | x0, S⟩
  · exact zPP_none q rfl
  rotate_left
  · exact zPP_none q rfl
  · exact zPP_none q rfl
  · exact zPP_none q rfl
  · exact zPP_none q rfl
  obtain ⟨rfl, off, d, h2, h3⟩ := ev
  exact zs_icmp_lt hx hb d (t := t.toNat) (by omega) (fun z => (zPP_some q (if_pos z)).2) (fun z => (zPP_some q (if_neg z)).2)
theorem zp_if_ge {t : Int} (C : zCx ML SR p l R s m args meth c D A ρs hc h0 h1 k lv y cc ret hh) (ev : zEv ML SR k y ret cc pc nx (.ifCond .ge t)) (q : zPP p l e R s m args below meth c Qf D A ρs hc h0 h1 (zML k) nx (.ifCond .ge t) L S h) : ZGo p l e R s m args below meth c Qf D A ρs hc h0 (zML k) pc L S h := by
  obtain ⟨hx, hst, hb, hml, hown, hnm, hret, hlk, htb, hts, hT, hC, h55, hA, hR, hR2⟩ := C
  rcases S with _ | ⟨x | x | (_ | x) | x, S⟩
  · exact zPP_none q rfl
  rotate_left
  · exact zPP_none q rfl
  · exact zPP_none q rfl
  · exact zPP_none q rfl
  · exact zPP_none q rfl
  obtain ⟨rfl, off, d, h2, h3⟩ := ev
  exact zs_if_ge hx hb d (t := t.toNat) (by omega) (fun z => (zPP_some q (if_pos z)).2) (fun z => (zPP_some q (if_neg z)).2)
theorem zp_icmp_ge {t : Int} (C : zCx ML SR p l R s m args meth c D A ρs hc h0 h1 k lv y cc ret hh) (ev : zEv ML SR k y ret cc pc nx (.if_icmp .ge t)) (q : zPP p l e R s m args below meth c Qf D A ρs hc h0 h1 (zML k) nx (.if_icmp .ge t) L S h) : ZGo p l e R s m args below meth c Qf D A ρs hc h0 (zML k) pc L S h := by
  obtain ⟨hx, hst, hb, hml, hown, hnm, hret, hlk, htb, hts, hT, hC, h55, hA, hR, hR2⟩ := C
  rcases S with _ | ⟨y0 | y0 | (_ | y0) | y0, S⟩
  · exact zPP_none q rfl
  rotate_left
  · exact zPP_none q rfl
  · exact zPP_none q rfl
  · exact zPP_none q rfl
  · exact zPP_none q rfl
  rcases S with _ | ⟨x0 | x0 | (_ | x0) | x0, S⟩
  · exact zPP_none q rfl
  rotate_left
  · exact zPP_none q rfl
  · exact zPP_none q rfl
  · exact zPP_none q rfl
  · exact zPP_none q rfl
  obtain ⟨rfl, off, d, h2, h3⟩ := ev
  exact zs_icmp_ge hx hb d (t := t.toNat) (by omega) (fun z => (zPP_some q (if_pos z)).2) (fun z => (zPP_some q (if_neg z)).2)
theorem zp_if_gt {t : Int} (C : zCx ML SR p l R s m args meth c D A ρs hc h0 h1 k lv y cc ret hh) (ev : zEv ML SR k y ret cc pc nx (.ifCond .gt t)) (q : zPP p l e R s m args below meth c Qf D A ρs hc h0 h1 (zML k) nx (.ifCond .gt t) L S h) : ZGo p l e R s m args below meth c Qf D A ρs hc h0 (zML k) pc L S h := by
  obtain ⟨hx, hst, hb, hml, hown, hnm, hret, hlk, htb, hts, hT, hC, h55, hA, hR, hR2⟩ := C
  rcases S with _ | ⟨x | x | (_ | x) | x, S⟩
  · exact zPP_none q rfl
  rotate_left
  · exact zPP_none q rfl
  · exact zPP_none q rfl
  · exact zPP_none q rfl
  · exact zPP_none q rfl
  obtain ⟨rfl, off, d, h2, h3⟩ := ev
  exact zs_if_gt hx hb d (t := t.toNat) (by omega) (fun z => (zPP_some q (if_pos z)).2) (fun z => (zPP_some q (if_neg z)).2)
theorem zp_icmp_gt {t : Int} (C : zCx ML SR p l R s m args meth c D A ρs hc h0 h1 k lv y cc ret hh) (ev : zEv ML SR k y ret cc pc nx (.if_icmp .gt t)) (q : zPP p l e R s m args below meth c Qf D A ρs hc h0 h1 (zML k) nx (.if_icmp .gt t) L S h) : ZGo p l e R s m args below meth c Qf D A ρs hc h0 (zML k) pc L S h := by
  obtain ⟨hx, hst, hb, hml, hown, hnm, hret, hlk, htb, hts, hT, hC, h55, hA, hR, hR2⟩ := C
  rcases S with _ | ⟨y0 | y0 | (_ | y0) | y0, S⟩
  · exact zPP_none q rfl
  rotate_left
  · exact zPP_none q rfl
  · exact zPP_none q rfl
  · exact zPP_none q rfl
  · exact zPP_none q rfl
  rcases S with _ | ⟨x0 | x0 | (_ | x0) | x0, S⟩
  · exact zPP_none q rfl
  rotate_left
  · exact zPP_none q rfl
  · exact zPP_none q rfl
  · exact zPP_none q rfl
  · exact zPP_none q rfl
  obtain ⟨rfl, off, d, h2, h3⟩ := ev
  exact zs_icmp_gt hx hb d (t := t.toNat) (by omega) (fun z => (zPP_some q (if_pos z)).2) (fun z => (zPP_some q (if_neg z)).2)
theorem zp_if_le {t : Int} (C : zCx ML SR p l R s m args meth c D A ρs hc h0 h1 k lv y cc ret hh) (ev : zEv ML SR k y ret cc pc nx (.ifCond .le t)) (q : zPP p l e R s m args below meth c Qf D A ρs hc h0 h1 (zML k) nx (.ifCond .le t) L S h) : ZGo p l e R s m args below meth c Qf D A ρs hc h0 (zML k) pc L S h := by
  obtain ⟨hx, hst, hb, hml, hown, hnm, hret, hlk, htb, hts, hT, hC, h55, hA, hR, hR2⟩ := C
  rcases S with _ | ⟨x | x | (_ | x) | x, S⟩
  · exact zPP_none q rfl
  rotate_left
  · exact zPP_none q rfl
  · exact zPP_none q rfl
  · exact zPP_none q rfl
  · exact zPP_none q rfl
  obtain ⟨rfl, off, d, h2, h3⟩ := ev
  exact zs_if_le hx hb d (t := t.toNat) (by omega) (fun z => (zPP_some q (if_pos z)).2) (fun z => (zPP_some q (if_neg z)).2)
theorem zp_icmp_le {t : Int} (C : zCx ML SR p l R s m args meth c D A ρs hc h0 h1 k lv y cc ret hh) (ev : zEv ML SR k y ret cc pc nx (.if_icmp .le t)) (q : zPP p l e R s m args below meth c Qf D A ρs hc h0 h1 (zML k) nx (.if_icmp .le t) L S h) : ZGo p l e R s m args below meth c Qf D A ρs hc h0 (zML k) pc L S h := by
  obtain ⟨hx, hst, hb, hml, hown, hnm, hret, hlk, htb, hts, hT, hC, h55, hA, hR, hR2⟩ := C
  rcases S with _ | ⟨y0 | y0 | (_ | y0) | y0, S⟩
  · exact zPP_none q rfl
  rotate_left
  · exact zPP_none q rfl
  · exact zPP_none q rfl
  · exact zPP_none q rfl
  · exact zPP_none q rfl
  rcases S with _ | ⟨x0 | x0 | (_ | x0) | x0, S⟩
  · exact zPP_none q rfl
  rotate_left
  · exact zPP_none q rfl
  · exact zPP_none q rfl
  · exact zPP_none q rfl
  · exact zPP_none q rfl
  obtain ⟨rfl, off, d, h2, h3⟩ := ev
  exact zs_icmp_le hx hb d (t := t.toNat) (by omega) (fun z => (zPP_some q (if_pos z)).2) (fun z => (zPP_some q (if_neg z)).2)
theorem zp_acmp_eq {t : Int} (C : zCx ML SR p l R s m args meth c D A ρs hc h0 h1 k lv y cc ret hh) (ev : zEv ML SR k y ret cc pc nx (.if_acmp .eq t)) (q : zPP p l e R s m args below meth c Qf D A ρs hc h0 h1 (zML k) nx (.if_acmp .eq t) L S h) : ZGo p l e R s m args below meth c Qf D A ρs hc h0 (zML k) pc L S h := by
  obtain ⟨hx, hst, hb, hml, hown, hnm, hret, hlk, htb, hts, hT, hC, h55, hA, hR, hR2⟩ := C
  rcases S with _ | ⟨y0 | y0 | y0 | y0, S⟩
  · exact zPP_none q rfl
  · exact zPP_none q rfl
  · exact zPP_none q rfl
  rotate_left
  · exact zPP_none q rfl
  rcases S with _ | ⟨x0 | x0 | x0 | x0, S⟩
  · exact zPP_none q rfl
  · exact zPP_none q rfl
  · exact zPP_none q rfl
  rotate_left
  · exact zPP_none q rfl
  obtain ⟨rfl, off, d, h2, h3⟩ := ev
  by_cases hz : zac x0 y0 = true
  · exact zs_acmp_eq hx hb hC h55 d (t := t.toNat) (by omega) hz (fun z => (zPP_some q ((if_pos hz).trans (if_pos z))).2) (fun z => (zPP_some q ((if_pos hz).trans (if_neg z))).2)
  · exact zPP_none q (if_neg hz)
theorem zp_acmp_ne {t : Int} (C : zCx ML SR p l R s m args meth c D A ρs hc h0 h1 k lv y cc ret hh) (ev : zEv ML SR k y ret cc pc nx (.if_acmp .ne t)) (q : zPP p l e R s m args below meth c Qf D A ρs hc h0 h1 (zML k) nx (.if_acmp .ne t) L S h) : ZGo p l e R s m args below meth c Qf D A ρs hc h0 (zML k) pc L S h := by
  obtain ⟨hx, hst, hb, hml, hown, hnm, hret, hlk, htb, hts, hT, hC, h55, hA, hR, hR2⟩ := C
  rcases S with _ | ⟨y0 | y0 | y0 | y0, S⟩
  · exact zPP_none q rfl
  · exact zPP_none q rfl
  · exact zPP_none q rfl
  rotate_left
  · exact zPP_none q rfl
  rcases S with _ | ⟨x0 | x0 | x0 | x0, S⟩
  · exact zPP_none q rfl
  · exact zPP_none q rfl
  · exact zPP_none q rfl
  rotate_left
  · exact zPP_none q rfl
  obtain ⟨rfl, off, d, h2, h3⟩ := ev
  by_cases hz : zac x0 y0 = true
  · exact zs_acmp_ne hx hb hC h55 d (t := t.toNat) (by omega) hz (fun z => (zPP_some q ((if_pos hz).trans (if_pos z))).2) (fun z => (zPP_some q ((if_pos hz).trans (if_neg z))).2)
  · exact zPP_none q (if_neg hz)
theorem zp_nn (hC : zCon SR A ρs hc s) (h55 : 55 ≤ hn h0) (ρ : Nat → Value) {a : Nat} (hz : 3 ≤ a) (e1 : ∀ a, a < hn h0 → ρ a = ρs a) (e2 : ∀ a, 55 ≤ a → a < hn h → ρ a = .ref (ca ρ a)) (e3 : a < hn h) : ∃ q, ρ a = .ref q := by
  rcases Nat.lt_or_ge a 55 with z | z
  · exact ⟨_, (e1 a (by omega)).trans (hC.1 a hz z).1⟩
  · exact ⟨_, e2 a z e3⟩
theorem zp_ifnull {t : Int} (C : zCx ML SR p l R s m args meth c D A ρs hc h0 h1 k lv y cc ret hh) (ev : zEv ML SR k y ret cc pc nx (.ifnull t)) (q : zPP p l e R s m args below meth c Qf D A ρs hc h0 h1 (zML k) nx (.ifnull t) L S h) : ZGo p l e R s m args below meth c Qf D A ρs hc h0 (zML k) pc L S h := by
  obtain ⟨hx, hst, hb, hml, hown, hnm, hret, hlk, htb, hts, hT, hC, h55, hA, hR, hR2⟩ := C
  obtain ⟨rfl, off, d, h2, h3⟩ := ev
  rcases S with _ | ⟨x | x | (_ | a) | x, S⟩
  · exact zPP_none q rfl
  · exact zPP_none q rfl
  · exact zPP_none q rfl
  · exact zs_ifnull_n hx hb d (t := t.toNat) (by omega) (zPP_some q rfl).2
  · by_cases hz : 3 ≤ a
    · exact zs_ifnull hx hb d (fun ρ e1 e2 e3 => zp_nn hC h55 ρ hz e1 e2 e3) (zPP_some q (if_pos hz)).2
    · exact zPP_none q (if_neg hz)
  · exact zPP_none q rfl
theorem zp_ifnonnull {t : Int} (C : zCx ML SR p l R s m args meth c D A ρs hc h0 h1 k lv y cc ret hh) (ev : zEv ML SR k y ret cc pc nx (.ifnonnull t)) (q : zPP p l e R s m args below meth c Qf D A ρs hc h0 h1 (zML k) nx (.ifnonnull t) L S h) : ZGo p l e R s m args below meth c Qf D A ρs hc h0 (zML k) pc L S h := by
  obtain ⟨hx, hst, hb, hml, hown, hnm, hret, hlk, htb, hts, hT, hC, h55, hA, hR, hR2⟩ := C
  obtain ⟨rfl, off, d, h2, h3⟩ := ev
  rcases S with _ | ⟨x | x | (_ | a) | x, S⟩
  · exact zPP_none q rfl
  · exact zPP_none q rfl
  · exact zPP_none q rfl
  · exact zs_ifnonnull_n hx hb d (zPP_some q rfl).2
  · by_cases hz : 3 ≤ a
    · exact zs_ifnonnull hx hb d (t := t.toNat) (by omega) (fun ρ e1 e2 e3 => zp_nn hC h55 ρ hz e1 e2 e3) (zPP_some q (if_pos hz)).2
    · exact zPP_none q (if_neg hz)
  · exact zPP_none q rfl
theorem zp_table {dd lo hi : Int} {o : Array Int} (C : zCx ML SR p l R s m args meth c D A ρs hc h0 h1 k lv y cc ret hh) (ev : zEv ML SR k y ret cc pc nx (.tableswitch dd lo hi o)) (q : zPP p l e R s m args below meth c Qf D A ρs hc h0 h1 (zML k) nx (.tableswitch dd lo hi o) L S h) : ZGo p l e R s m args below meth c Qf D A ρs hc h0 (zML k) pc L S h := by
  obtain ⟨hx, hst, hb, hml, hown, hnm, hret, hlk, htb, hts, hT, hC, h55, hA, hR, hR2⟩ := C
  rcases S with _ | ⟨x | x | (_ | x) | x, S⟩
  · exact zPP_none q rfl
  rotate_left
  · exact zPP_none q rfl
  · exact zPP_none q rfl
  · exact zPP_none q rfl
  · exact zPP_none q rfl
  obtain ⟨dflt, offs, len, d, h2, h3, h4, h5⟩ := ev
  exact zs_table hx hb d h2 h3 h4 h5 (zPP_some q rfl).2
theorem zp_lookup {dd : Int} {o : Array (Int × Int)} (C : zCx ML SR p l R s m args meth c D A ρs hc h0 h1 k lv y cc ret hh) (ev : zEv ML SR k y ret cc pc nx (.lookupswitch dd o)) (q : zPP p l e R s m args below meth c Qf D A ρs hc h0 h1 (zML k) nx (.lookupswitch dd o) L S h) : ZGo p l e R s m args below meth c Qf D A ρs hc h0 (zML k) pc L S h := by
  obtain ⟨hx, hst, hb, hml, hown, hnm, hret, hlk, htb, hts, hT, hC, h55, hA, hR, hR2⟩ := C
  rcases S with _ | ⟨x | x | (_ | x) | x, S⟩
  · exact zPP_none q rfl
  rotate_left
  · exact zPP_none q rfl
  · exact zPP_none q rfl
  · exact zPP_none q rfl
  · exact zPP_none q rfl
  obtain ⟨dflt, ps, len, d, h1, h2, h3, h4⟩ := ev
  exact zs_lookup hx hb d h1 h2 h3 h4 (zPP_some q rfl).2
theorem zp_same {f : Nat} {ref : String} (hts : ∀ w, w ∈ lw_all → w.before args s = true) (h : ref = (zFN f).1 ∨ Cond.sameField ref (zFN f).1 (zFN f).2.1 (zFN f).2.2.1 ∈ lw_all) : ∀ x, s.fieldFound? (zFN f).1 (zFN f).2.1 (zFN f).2.2.1 = some x → s.fieldFound? ref (zFN f).2.1 (zFN f).2.2.1 = some x := by
  intro x hx
  rcases h with rfl | h
  · exact hx
  · exact u_same (hts _ h) x hx
theorem zp_has : (List.range 99).all (fun f => !((zOF 117).contains f) && !((zOF 118).contains f)) = true := by decide +kernel
theorem zp_has2 {f : Nat} {kd : Nat × Nat} (hf : f < 99) (hkd : kd.1 = 117 ∨ kd.1 = 118) (h : zhas f kd = true) : False := by
  have := List.all_eq_true.mp zp_has f (List.mem_range.mpr hf)
  rw [Bool.and_eq_true, Bool.not_eq_true', Bool.not_eq_true'] at this
  unfold zhas at h
  rcases hkd with z | z <;> rw [z] at h
  · rw [this.1] at h; cases h
  · rw [this.2] at h; cases h
theorem zp_getfield {f : Nat} (C : zCx ML SR p l R s m args meth c D A ρs hc h0 h1 k lv y cc ret hh) (ev : zEv ML SR k y ret cc pc nx (.getfield f)) (q : zPP p l e R s m args below meth c Qf D A ρs hc h0 h1 (zML k) nx (.getfield f) L S h) : ZGo p l e R s m args below meth c Qf D A ρs hc h0 (zML k) pc L S h := by
  obtain ⟨hx, hst, hb, hml, hown, hnm, hret, hlk, htb, hts, hT, hC, h55, hA, hR, hR2⟩ := C
  rcases S with _ | ⟨a | a | (_ | a) | a, S⟩
  · exact zPP_none q rfl
  · exact zPP_none q rfl
  · exact zPP_none q rfl
  · exact zPP_none q rfl
  rotate_left
  · exact zPP_none q rfl
  by_cases hz : zhas f (hk h a) = true
  · have q := (zPP_some q (if_pos hz)).2
    obtain ⟨rfl, n1, n2, i, ref, d, hl, hsm⟩ := ev
    refine ZGo_low fun hlow _ _ _ => ?_
    rcases Nat.lt_or_ge a 55 with ha | ha
    · rcases hl with hl | ⟨hf, -⟩
      · exact zs_getfC hx hb hown hC h55 (hlow a ha) n1 n2 (hts _ hl) (show ∀ x, s.fieldFound? (zFN f).1 (zFN f).2.1 (zFN f).2.2.1 = some x → s.fieldFound? ref (zFN f).2.1 (zFN f).2.2.1 = some x from zp_same hts hsm) d ha hz q
      · exfalso
        have hge := (zhas_ge hz).1
        have h9 := (hlow a ha).1
        have := (hC.2.1 a ha (by rw [← h9]; exact hge)).1.2
        rw [← h9] at this
        exact zp_has2 hf this hz
    · refine zs_getf hx hb hown hts hT.2.2.2 ?_ (show ∀ x, s.fieldFound? (zFN f).1 (zFN f).2.1 (zFN f).2.2.1 = some x → s.fieldFound? ref (zFN f).2.1 (zFN f).2.2.1 = some x from zp_same hts hsm) d ha hz q
      rcases hl with hl | ⟨-, host, hl⟩
      · exact Or.inl (hts _ hl)
      · exact Or.inr ⟨host, va_Nw.use rfl (hT.1 _ hl)⟩
  · exact zPP_none q (if_neg hz)
theorem zp_putfield {f : Nat} (C : zCx ML SR p l R s m args meth c D A ρs hc h0 h1 k lv y cc ret hh) (ev : zEv ML SR k y ret cc pc nx (.putfield f)) (q : zPP p l e R s m args below meth c Qf D A ρs hc h0 h1 (zML k) nx (.putfield f) L S h) : ZGo p l e R s m args below meth c Qf D A ρs hc h0 (zML k) pc L S h := by
  obtain ⟨hx, hst, hb, hml, hown, hnm, hret, hlk, htb, hts, hT, hC, h55, hA, hR, hR2⟩ := C
  rcases S with _ | ⟨v, S⟩
  · exact zPP_none q rfl
  rcases S with _ | ⟨a | a | (_ | a) | a, S⟩ <;> try (rcases v with v | v | (_ | v) | v <;> exact zPP_none q rfl)
  by_cases hz : zNC ≤ a ∧ zhas f (hk h a) = true ∧ zok (zFT f) v = true
  · have q := (zPP_some q (if_pos hz)).2
    obtain ⟨rfl, i, ref, d, hl, hsm⟩ := ev
    refine zs_putf hx hb hown hts hT.2.2.2 ?_ (show ∀ x, s.fieldFound? (zFN f).1 (zFN f).2.1 (zFN f).2.2.1 = some x → s.fieldFound? ref (zFN f).2.1 (zFN f).2.2.1 = some x from zp_same hts hsm) d hz.1 hz.2.1 hz.2.2 q
    rcases hl with ⟨hl, hf⟩ | ⟨hf, host, hl⟩
    · refine Or.inl ⟨hts _ hl, ?_⟩
      rcases hf with hf | ⟨f1, f2, f3⟩
      · exact Or.inl hf
      · exact Or.inr ⟨f1, by rw [hnm]; exact f2, f3⟩
    · exact Or.inr ⟨hf, host, va_Nw.use rfl (hT.1 _ hl)⟩
  · exact zPP_none q (if_neg hz)
theorem zp_new {c0 : Nat} (C : zCx ML SR p l R s m args meth c D A ρs hc h0 h1 k lv y cc ret hh) (ev : zEv ML SR k y ret cc pc nx (.new c0)) (q : zPP p l e R s m args below meth c Qf D A ρs hc h0 h1 (zML k) nx (.new c0) L S h) : ZGo p l e R s m args below meth c Qf D A ρs hc h0 (zML k) pc L S h := by
  obtain ⟨hx, hst, hb, hml, hown, hnm, hret, hlk, htb, hts, hT, hC, h55, hA, hR, hR2⟩ := C
  have gr := (zPP_some q rfl).1
  have q := (zPP_some q rfl).2
  obtain ⟨rfl, hk0, hsl, i, d, hl⟩ := ev
  refine ZGo_low fun hlow _ hg1 hg2 => ?_
  have gr : hn h + 1 ≤ hn h1 ∧ hs h + zSL c0 ≤ hs h1 := gr
  exact zs_new hx hb hown hts hT.2.2.2 hA hk0.1 hk0.2 (hts _ hl) hsl (by omega) (by omega) d q
theorem zp_newarray_int (C : zCx ML SR p l R s m args meth c D A ρs hc h0 h1 k lv y cc ret hh) (ev : zEv ML SR k y ret cc pc nx (.newarray .int)) (q : zPP p l e R s m args below meth c Qf D A ρs hc h0 h1 (zML k) nx (.newarray .int) L S h) : ZGo p l e R s m args below meth c Qf D A ρs hc h0 (zML k) pc L S h := by
  obtain ⟨hx, hst, hb, hml, hown, hnm, hret, hlk, htb, hts, hT, hC, h55, hA, hR, hR2⟩ := C
  rcases S with _ | ⟨x | x | (_ | x) | x, S⟩
  · exact zPP_none q rfl
  rotate_left
  · exact zPP_none q rfl
  · exact zPP_none q rfl
  · exact zPP_none q rfl
  · exact zPP_none q rfl
  by_cases hz : 0 ≤ x ∧ x ≤ 1000000
  · have gr := (zPP_some q (if_pos hz)).1
    have q := (zPP_some q (if_pos hz)).2
    obtain ⟨rfl, d⟩ := ev
    refine ZGo_low fun hlow _ hg1 hg2 => ?_
    have gr : hn h + 1 ≤ hn h1 ∧ hs h + x.toNat ≤ hs h1 := gr
    exact zs_newarray_int hx hb (hts _ zAr_int) hT.2.2.2 hA hz.1 hz.2 (by omega) (by omega) d q
  · exact zPP_none q (if_neg hz)
theorem zp_newarray_byte (C : zCx ML SR p l R s m args meth c D A ρs hc h0 h1 k lv y cc ret hh) (ev : zEv ML SR k y ret cc pc nx (.newarray .byte)) (q : zPP p l e R s m args below meth c Qf D A ρs hc h0 h1 (zML k) nx (.newarray .byte) L S h) : ZGo p l e R s m args below meth c Qf D A ρs hc h0 (zML k) pc L S h := by
  obtain ⟨hx, hst, hb, hml, hown, hnm, hret, hlk, htb, hts, hT, hC, h55, hA, hR, hR2⟩ := C
  rcases S with _ | ⟨x | x | (_ | x) | x, S⟩
  · exact zPP_none q rfl
  rotate_left
  · exact zPP_none q rfl
  · exact zPP_none q rfl
  · exact zPP_none q rfl
  · exact zPP_none q rfl
  by_cases hz : 0 ≤ x ∧ x ≤ 1000000
  · have gr := (zPP_some q (if_pos hz)).1
    have q := (zPP_some q (if_pos hz)).2
    obtain ⟨rfl, d⟩ := ev
    refine ZGo_low fun hlow _ hg1 hg2 => ?_
    have gr : hn h + 1 ≤ hn h1 ∧ hs h + x.toNat ≤ hs h1 := gr
    exact zs_newarray_byte hx hb (hts _ zAr_byte) hT.2.2.2 hA hz.1 hz.2 (by omega) (by omega) d q
  · exact zPP_none q (if_neg hz)
theorem zp_newarray_boolean (C : zCx ML SR p l R s m args meth c D A ρs hc h0 h1 k lv y cc ret hh) (ev : zEv ML SR k y ret cc pc nx (.newarray .boolean)) (q : zPP p l e R s m args below meth c Qf D A ρs hc h0 h1 (zML k) nx (.newarray .boolean) L S h) : ZGo p l e R s m args below meth c Qf D A ρs hc h0 (zML k) pc L S h := by
  obtain ⟨hx, hst, hb, hml, hown, hnm, hret, hlk, htb, hts, hT, hC, h55, hA, hR, hR2⟩ := C
  rcases S with _ | ⟨x | x | (_ | x) | x, S⟩
  · exact zPP_none q rfl
  rotate_left
  · exact zPP_none q rfl
  · exact zPP_none q rfl
  · exact zPP_none q rfl
  · exact zPP_none q rfl
  by_cases hz : 0 ≤ x ∧ x ≤ 1000000
  · have gr := (zPP_some q (if_pos hz)).1
    have q := (zPP_some q (if_pos hz)).2
    obtain ⟨rfl, d⟩ := ev
    refine ZGo_low fun hlow _ hg1 hg2 => ?_
    have gr : hn h + 1 ≤ hn h1 ∧ hs h + x.toNat ≤ hs h1 := gr
    exact zs_newarray_boolean hx hb (hts _ zAr_boolean) hT.2.2.2 hA hz.1 hz.2 (by omega) (by omega) d q
  · exact zPP_none q (if_neg hz)
theorem zp_newarray_long (C : zCx ML SR p l R s m args meth c D A ρs hc h0 h1 k lv y cc ret hh) (ev : zEv ML SR k y ret cc pc nx (.newarray .long)) (q : zPP p l e R s m args below meth c Qf D A ρs hc h0 h1 (zML k) nx (.newarray .long) L S h) : ZGo p l e R s m args below meth c Qf D A ρs hc h0 (zML k) pc L S h := by
  obtain ⟨hx, hst, hb, hml, hown, hnm, hret, hlk, htb, hts, hT, hC, h55, hA, hR, hR2⟩ := C
  rcases S with _ | ⟨x | x | (_ | x) | x, S⟩
  · exact zPP_none q rfl
  rotate_left
  · exact zPP_none q rfl
  · exact zPP_none q rfl
  · exact zPP_none q rfl
  · exact zPP_none q rfl
  by_cases hz : 0 ≤ x ∧ x ≤ 1000000
  · have gr := (zPP_some q (if_pos hz)).1
    have q := (zPP_some q (if_pos hz)).2
    obtain ⟨rfl, d⟩ := ev
    refine ZGo_low fun hlow _ hg1 hg2 => ?_
    have gr : hn h + 1 ≤ hn h1 ∧ hs h + x.toNat ≤ hs h1 := gr
    exact zs_newarray_long hx hb (hts _ zAr_long) hT.2.2.2 hA hz.1 hz.2 (by omega) (by omega) d q
  · exact zPP_none q (if_neg hz)
theorem zp_anew {t : Nat} (C : zCx ML SR p l R s m args meth c D A ρs hc h0 h1 k lv y cc ret hh) (ev : zEv ML SR k y ret cc pc nx (.anewarray t)) (q : zPP p l e R s m args below meth c Qf D A ρs hc h0 h1 (zML k) nx (.anewarray t) L S h) : ZGo p l e R s m args below meth c Qf D A ρs hc h0 (zML k) pc L S h := by
  obtain ⟨hx, hst, hb, hml, hown, hnm, hret, hlk, htb, hts, hT, hC, h55, hA, hR, hR2⟩ := C
  rcases S with _ | ⟨x | x | (_ | x) | x, S⟩
  · exact zPP_none q rfl
  rotate_left
  · exact zPP_none q rfl
  · exact zPP_none q rfl
  · exact zPP_none q rfl
  · exact zPP_none q rfl
  by_cases hz : 0 ≤ x ∧ x ≤ 1000000 ∧ 5 ≤ t ∧ t ≤ 7
  · have gr := (zPP_some q (if_pos hz)).1
    have q := (zPP_some q (if_pos hz)).2
    obtain ⟨rfl, i, d, hl⟩ := ev
    refine ZGo_low fun hlow _ hg1 hg2 => ?_
    have gr : hn h + 1 ≤ hn h1 ∧ hs h + x.toNat ≤ hs h1 := gr
    rcases hl with ⟨rfl, hl⟩ | ⟨rfl, hl⟩ | ⟨rfl, hl⟩
    · exact zs_anew5 hx hb hown (hts _ hl) (hT.1 _ zAo5) hT.2.2.2 hA hz.1 hz.2.1 (by omega) (by omega) d q
    · exact zs_anew6 hx hb hown (hts _ hl) (hT.1 _ zAo6) hT.2.2.2 hA hz.1 hz.2.1 (by omega) (by omega) d q
    · exact zs_anew7 hx hb hown (hts _ hl) (show (Cond.arrayOver (.array .byte)).before args s = true from hT.1 _ zAo7) hA hz.1 hz.2.1 (by omega) (by omega) d q
  · exact zPP_none q (if_neg hz)
theorem zp_alen (C : zCx ML SR p l R s m args meth c D A ρs hc h0 h1 k lv y cc ret hh) (ev : zEv ML SR k y ret cc pc nx (.arraylength)) (q : zPP p l e R s m args below meth c Qf D A ρs hc h0 h1 (zML k) nx (.arraylength) L S h) : ZGo p l e R s m args below meth c Qf D A ρs hc h0 (zML k) pc L S h := by
  obtain ⟨hx, hst, hb, hml, hown, hnm, hret, hlk, htb, hts, hT, hC, h55, hA, hR, hR2⟩ := C
  rcases S with _ | ⟨a | a | (_ | a) | a, S⟩
  · exact zPP_none q rfl
  · exact zPP_none q rfl
  · exact zPP_none q rfl
  · exact zPP_none q rfl
  rotate_left
  · exact zPP_none q rfl
  by_cases hz : 1 ≤ (hk h a).1 ∧ (hk h a).1 ≤ 7
  · have q := (zPP_some q (if_pos hz)).2
    obtain ⟨rfl, d⟩ := ev
    refine ZGo_low fun hlow _ _ _ => ?_
    rcases Nat.lt_or_ge a 55 with ha | ha
    · exact zs_alenC hx hb hC h55 (hlow a ha) d ha hz q
    · exact zs_alen hx hb hT.2.2.2 d ha hz q
  · exact zPP_none q (if_neg hz)
theorem zp_iaload (C : zCx ML SR p l R s m args meth c D A ρs hc h0 h1 k lv y cc ret hh) (ev : zEv ML SR k y ret cc pc nx (.iaload)) (q : zPP p l e R s m args below meth c Qf D A ρs hc h0 h1 (zML k) nx (.iaload) L S h) : ZGo p l e R s m args below meth c Qf D A ρs hc h0 (zML k) pc L S h := by
  obtain ⟨hx, hst, hb, hml, hown, hnm, hret, hlk, htb, hts, hT, hC, h55, hA, hR, hR2⟩ := C
  rcases S with _ | ⟨x | x | (_ | x) | x, S⟩
  · exact zPP_none q rfl
  rotate_left
  · exact zPP_none q rfl
  · exact zPP_none q rfl
  · exact zPP_none q rfl
  · exact zPP_none q rfl
  rcases S with _ | ⟨a | a | (_ | a) | a, S⟩
  · exact zPP_none q rfl
  · exact zPP_none q rfl
  · exact zPP_none q rfl
  · exact zPP_none q rfl
  rotate_left
  · exact zPP_none q rfl
  by_cases hz : (hk h a).1 = 1 ∧ 0 ≤ x ∧ x < ((hk h a).2 : Int)
  · have q := (zPP_some q (if_pos hz)).2
    obtain ⟨rfl, d⟩ := ev
    refine ZGo_low fun hlow _ _ _ => ?_
    rcases Nat.lt_or_ge a 55 with ha | ha
    · exact zs_xaloadC hx hb hC h55 (hlow a ha) (Or.inl ⟨d, hz.1⟩) ha hz.2.1 hz.2.2 q
    · exact zs_iaload hx hb hT.2.2.2 d ha hz.1 hz.2.1 hz.2.2 q
  · exact zPP_none q (if_neg hz)
theorem zp_baload (C : zCx ML SR p l R s m args meth c D A ρs hc h0 h1 k lv y cc ret hh) (ev : zEv ML SR k y ret cc pc nx (.baload)) (q : zPP p l e R s m args below meth c Qf D A ρs hc h0 h1 (zML k) nx (.baload) L S h) : ZGo p l e R s m args below meth c Qf D A ρs hc h0 (zML k) pc L S h := by
  obtain ⟨hx, hst, hb, hml, hown, hnm, hret, hlk, htb, hts, hT, hC, h55, hA, hR, hR2⟩ := C
  rcases S with _ | ⟨x | x | (_ | x) | x, S⟩
  · exact zPP_none q rfl
  rotate_left
  · exact zPP_none q rfl
  · exact zPP_none q rfl
  · exact zPP_none q rfl
  · exact zPP_none q rfl
  rcases S with _ | ⟨a | a | (_ | a) | a, S⟩
  · exact zPP_none q rfl
  · exact zPP_none q rfl
  · exact zPP_none q rfl
  · exact zPP_none q rfl
  rotate_left
  · exact zPP_none q rfl
  by_cases hz : ((hk h a).1 = 2 ∨ (hk h a).1 = 3) ∧ 0 ≤ x ∧ x < ((hk h a).2 : Int)
  · have q := (zPP_some q (if_pos hz)).2
    obtain ⟨rfl, d⟩ := ev
    refine ZGo_low fun hlow _ _ _ => ?_
    rcases Nat.lt_or_ge a 55 with ha | ha
    · have h2 : (hk h a).1 = 2 := by
        have h9 := (hlow a ha).1
        have := hC.2.2.1 a ha (by rw [← h9]; omega) (by rw [← h9]; omega)
        rw [← h9] at this
        have := this.1.2.1
        omega
      exact zs_xaloadC hx hb hC h55 (hlow a ha) (Or.inr ⟨d, h2⟩) ha hz.2.1 hz.2.2 q
    · exact zs_baload hx hb hT.2.2.2 d ha hz.1 hz.2.1 hz.2.2 q
  · exact zPP_none q (if_neg hz)
theorem zp_laload (C : zCx ML SR p l R s m args meth c D A ρs hc h0 h1 k lv y cc ret hh) (ev : zEv ML SR k y ret cc pc nx (.laload)) (q : zPP p l e R s m args below meth c Qf D A ρs hc h0 h1 (zML k) nx (.laload) L S h) : ZGo p l e R s m args below meth c Qf D A ρs hc h0 (zML k) pc L S h := by
  obtain ⟨hx, hst, hb, hml, hown, hnm, hret, hlk, htb, hts, hT, hC, h55, hA, hR, hR2⟩ := C
  rcases S with _ | ⟨x | x | (_ | x) | x, S⟩
  · exact zPP_none q rfl
  rotate_left
  · exact zPP_none q rfl
  · exact zPP_none q rfl
  · exact zPP_none q rfl
  · exact zPP_none q rfl
  rcases S with _ | ⟨a | a | (_ | a) | a, S⟩
  · exact zPP_none q rfl
  · exact zPP_none q rfl
  · exact zPP_none q rfl
  · exact zPP_none q rfl
  rotate_left
  · exact zPP_none q rfl
  by_cases hz : (hk h a).1 = 4 ∧ 0 ≤ x ∧ x < ((hk h a).2 : Int)
  · have q := (zPP_some q (if_pos hz)).2
    obtain ⟨rfl, d⟩ := ev
    refine ZGo_low fun hlow _ _ _ => ?_
    rcases Nat.lt_or_ge a 55 with ha | ha
    · exfalso
      have h9 := (hlow a ha).1
      have := hC.2.2.1 a ha (by rw [← h9]; omega) (by rw [← h9]; omega)
      rw [← h9] at this
      have := this.1.2.1
      omega
    · exact zs_laload hx hb hT.2.2.2 d ha hz.1 hz.2.1 hz.2.2 q
  · exact zPP_none q (if_neg hz)
theorem zp_aaload (C : zCx ML SR p l R s m args meth c D A ρs hc h0 h1 k lv y cc ret hh) (ev : zEv ML SR k y ret cc pc nx (.aaload)) (q : zPP p l e R s m args below meth c Qf D A ρs hc h0 h1 (zML k) nx (.aaload) L S h) : ZGo p l e R s m args below meth c Qf D A ρs hc h0 (zML k) pc L S h := by
  obtain ⟨hx, hst, hb, hml, hown, hnm, hret, hlk, htb, hts, hT, hC, h55, hA, hR, hR2⟩ := C
  rcases S with _ | ⟨x | x | (_ | x) | x, S⟩
  · exact zPP_none q rfl
  rotate_left
  · exact zPP_none q rfl
  · exact zPP_none q rfl
  · exact zPP_none q rfl
  · exact zPP_none q rfl
  rcases S with _ | ⟨a | a | (_ | a) | a, S⟩
  · exact zPP_none q rfl
  · exact zPP_none q rfl
  · exact zPP_none q rfl
  · exact zPP_none q rfl
  rotate_left
  · exact zPP_none q rfl
  by_cases hz : ((5 ≤ (hk h a).1 ∧ (hk h a).1 ≤ 7) ∧ 0 ≤ x ∧ x < ((hk h a).2 : Int)) ∨ ((hk h a).1 = 8 ∧ 128 ≤ x ∧ x < 144)
  · have q := (zPP_some q (if_pos hz)).2
    obtain ⟨rfl, d⟩ := ev
    refine ZGo_low fun hlow hok1 _ _ => ?_
    refine ZGo_hL fun _ _ hS => ?_
    have h2 : a < hn h := (hd1 (tl1 hS)).1
    rcases Nat.lt_or_ge a 55 with ha | ha
    · rcases hz with hz | hz
      · exfalso
        have h9 := (hlow a ha).1
        have := hC.2.2.1 a ha (by rw [← h9]; omega) (by rw [← h9]; omega)
        rw [← h9] at this
        have := this.1.2.1
        omega
      · exact zs_aaloadC hx hb hC h55 (hlow a ha) d ha hz.1 hz.2.1 hz.2.2 q
    · rcases hz with hz | hz
      · exact zs_aaload hx hb (fun ρ {κ} {H} {locs} g b b1 b2 => zSt_rf hC h55 g b1 b2) hT.2.2.2 d ha hz.1 hz.2.1 hz.2.2 q
      · exfalso
        rcases hok1.2 a ha h2 with ⟨z, -⟩ | ⟨-, z, -⟩ <;> omega
  · exact zPP_none q (if_neg hz)
theorem zp_iastore (C : zCx ML SR p l R s m args meth c D A ρs hc h0 h1 k lv y cc ret hh) (ev : zEv ML SR k y ret cc pc nx (.iastore)) (q : zPP p l e R s m args below meth c Qf D A ρs hc h0 h1 (zML k) nx (.iastore) L S h) : ZGo p l e R s m args below meth c Qf D A ρs hc h0 (zML k) pc L S h := by
  obtain ⟨hx, hst, hb, hml, hown, hnm, hret, hlk, htb, hts, hT, hC, h55, hA, hR, hR2⟩ := C
  rcases S with _ | ⟨y0 | y0 | (_ | y0) | y0, S⟩
  · exact zPP_none q rfl
  rotate_left
  · exact zPP_none q rfl
  · exact zPP_none q rfl
  · exact zPP_none q rfl
  · exact zPP_none q rfl
  rcases S with _ | ⟨x | x | (_ | x) | x, S⟩
  · exact zPP_none q rfl
  rotate_left
  · exact zPP_none q rfl
  · exact zPP_none q rfl
  · exact zPP_none q rfl
  · exact zPP_none q rfl
  rcases S with _ | ⟨a | a | (_ | a) | a, S⟩
  · exact zPP_none q rfl
  · exact zPP_none q rfl
  · exact zPP_none q rfl
  · exact zPP_none q rfl
  rotate_left
  · exact zPP_none q rfl
  by_cases hz : (hk h a).1 = 1 ∧ (0 ≤ x ∧ x < ((hk h a).2 : Int)) ∧ zNC ≤ a
  · have q := (zPP_some q (if_pos hz)).2
    obtain ⟨rfl, d⟩ := ev
    exact zs_iastore hx hb hT.2.2.2 d hz.2.2 hz.1 hz.2.1.1 hz.2.1.2 q
  · exact zPP_none q (if_neg hz)
theorem zp_lastore (C : zCx ML SR p l R s m args meth c D A ρs hc h0 h1 k lv y cc ret hh) (ev : zEv ML SR k y ret cc pc nx (.lastore)) (q : zPP p l e R s m args below meth c Qf D A ρs hc h0 h1 (zML k) nx (.lastore) L S h) : ZGo p l e R s m args below meth c Qf D A ρs hc h0 (zML k) pc L S h := by
  obtain ⟨hx, hst, hb, hml, hown, hnm, hret, hlk, htb, hts, hT, hC, h55, hA, hR, hR2⟩ := C
  rcases S with _ | ⟨y0 | y0 | (_ | y0) | y0, S⟩
  · exact zPP_none q rfl
  · exact zPP_none q rfl
  rotate_left
  · exact zPP_none q rfl
  · exact zPP_none q rfl
  · exact zPP_none q rfl
  rcases S with _ | ⟨x | x | (_ | x) | x, S⟩
  · exact zPP_none q rfl
  rotate_left
  · exact zPP_none q rfl
  · exact zPP_none q rfl
  · exact zPP_none q rfl
  · exact zPP_none q rfl
  rcases S with _ | ⟨a | a | (_ | a) | a, S⟩
  · exact zPP_none q rfl
  · exact zPP_none q rfl
  · exact zPP_none q rfl
  · exact zPP_none q rfl
  rotate_left
  · exact zPP_none q rfl
  by_cases hz : (hk h a).1 = 4 ∧ (0 ≤ x ∧ x < ((hk h a).2 : Int)) ∧ zNC ≤ a
  · have q := (zPP_some q (if_pos hz)).2
    obtain ⟨rfl, d⟩ := ev
    exact zs_lastore hx hb hT.2.2.2 d hz.2.2 hz.1 hz.2.1.1 hz.2.1.2 q
  · exact zPP_none q (if_neg hz)
theorem zp_bastore (C : zCx ML SR p l R s m args meth c D A ρs hc h0 h1 k lv y cc ret hh) (ev : zEv ML SR k y ret cc pc nx (.bastore)) (q : zPP p l e R s m args below meth c Qf D A ρs hc h0 h1 (zML k) nx (.bastore) L S h) : ZGo p l e R s m args below meth c Qf D A ρs hc h0 (zML k) pc L S h := by
  obtain ⟨hx, hst, hb, hml, hown, hnm, hret, hlk, htb, hts, hT, hC, h55, hA, hR, hR2⟩ := C
  rcases S with _ | ⟨y0 | y0 | (_ | y0) | y0, S⟩
  · exact zPP_none q rfl
  rotate_left
  · exact zPP_none q rfl
  · exact zPP_none q rfl
  · exact zPP_none q rfl
  · exact zPP_none q rfl
  rcases S with _ | ⟨x | x | (_ | x) | x, S⟩
  · exact zPP_none q rfl
  rotate_left
  · exact zPP_none q rfl
  · exact zPP_none q rfl
  · exact zPP_none q rfl
  · exact zPP_none q rfl
  rcases S with _ | ⟨a | a | (_ | a) | a, S⟩
  · exact zPP_none q rfl
  · exact zPP_none q rfl
  · exact zPP_none q rfl
  · exact zPP_none q rfl
  rotate_left
  · exact zPP_none q rfl
  by_cases hz : ((hk h a).1 = 2 ∨ (hk h a).1 = 3) ∧ (0 ≤ x ∧ x < ((hk h a).2 : Int)) ∧ zNC ≤ a ∧ ((hk h a).1 = 3 → y0 = 0 ∨ y0 = 1)
  · have q := (zPP_some q (if_pos hz)).2
    obtain ⟨rfl, d⟩ := ev
    rcases hz.1 with h2 | h3
    · rw [if_pos h2] at q
      exact zs_bastore2 hx hb hT.2.2.2 d hz.2.2.1 h2 hz.2.1.1 hz.2.1.2 q
    · rw [if_neg (by omega)] at q
      exact zs_bastore3 hx hb hT.2.2.2 d hz.2.2.1 h3 hz.2.1.1 hz.2.1.2 (hz.2.2.2 h3) q
  · exact zPP_none q (if_neg hz)
theorem zcn_obj : (List.range 24).all (fun c => decide (100 + c ≤ 123)) = true := by decide +kernel
theorem zp_aastore (C : zCx ML SR p l R s m args meth c D A ρs hc h0 h1 k lv y cc ret hh) (ev : zEv ML SR k y ret cc pc nx (.aastore)) (q : zPP p l e R s m args below meth c Qf D A ρs hc h0 h1 (zML k) nx (.aastore) L S h) : ZGo p l e R s m args below meth c Qf D A ρs hc h0 (zML k) pc L S h := by
  obtain ⟨hx, hst, hb, hml, hown, hnm, hret, hlk, htb, hts, hT, hC, h55, hA, hR, hR2⟩ := C
  rcases S with _ | ⟨b | b | (_ | b) | b, S⟩
  · exact zPP_none q rfl
  · exact zPP_none q rfl
  · exact zPP_none q rfl
  rotate_left 2
  · exact zPP_none q rfl
  · rcases S with _ | ⟨x | x | (_ | x) | x, S⟩
    · exact zPP_none q rfl
    rotate_left
    · exact zPP_none q rfl
    · exact zPP_none q rfl
    · exact zPP_none q rfl
    · exact zPP_none q rfl
    rcases S with _ | ⟨a | a | (_ | a) | a, S⟩
    · exact zPP_none q rfl
    · exact zPP_none q rfl
    · exact zPP_none q rfl
    · exact zPP_none q rfl
    rotate_left
    · exact zPP_none q rfl
    by_cases hz : (5 ≤ (hk h a).1 ∧ (hk h a).1 ≤ 6) ∧ (0 ≤ x ∧ x < ((hk h a).2 : Int)) ∧ zNC ≤ a
    · have q := (zPP_some q (if_pos hz)).2
      obtain ⟨rfl, d⟩ := ev
      exact zs_aastore hx hb hT.2.2.2 d hz.2.2 hz.1 hz.2.1.1 hz.2.1.2 (Or.inl rfl) (fun b eb => by cases eb) q
    · exact zPP_none q (if_neg hz)
  · rcases S with _ | ⟨x | x | (_ | x) | x, S⟩
    · exact zPP_none q rfl
    rotate_left
    · exact zPP_none q rfl
    · exact zPP_none q rfl
    · exact zPP_none q rfl
    · exact zPP_none q rfl
    rcases S with _ | ⟨a | a | (_ | a) | a, S⟩
    · exact zPP_none q rfl
    · exact zPP_none q rfl
    · exact zPP_none q rfl
    · exact zPP_none q rfl
    rotate_left
    · exact zPP_none q rfl
    by_cases hz : (5 ≤ (hk h a).1 ∧ (hk h a).1 ≤ 7) ∧ (0 ≤ x ∧ x < ((hk h a).2 : Int)) ∧ zNC ≤ a ∧ (3 ≤ b ∧ ((hk h a).1 = 5 → 100 ≤ (hk h b).1) ∧ ((hk h a).1 = 6 → (hk h b).1 = 105) ∧ ((hk h a).1 = 7 → (hk h b).1 = 2 ∧ zNC ≤ b))
    · have q := (zPP_some q (if_pos hz)).2
      obtain ⟨rfl, d⟩ := ev
      obtain ⟨z1, z2, z3, z4, z5, z6, z7⟩ := hz
      by_cases e7 : (hk h a).1 = 7
      · exact zs_aastB hx hb d z3 e7 z2.1 z2.2 (z7 e7).2 (z7 e7).1 q
      · refine zs_aastore hx hb hT.2.2.2 d z3 (by omega) z2.1 z2.2 (Or.inr ⟨b, rfl, z4⟩) (fun b' eb ρ κ H locs g hb2 => ?_) q
        cases eb
        by_cases e5 : (hk h a).1 = 5
        · rw [if_pos e5]
          obtain ⟨f1, f2, cell, f3, f4, f5⟩ := zSt_obj hC h55 hT.2.2.2 g hb2 (z5 e5)
          exact ⟨f1, zAnyC f3 f4 f5 (hT.1 _ (zCO (z5 e5) f2))⟩
        · have e6 : (hk h a).1 = 6 := by omega
          have eb6 := z6 e6
          rw [if_neg e5]
          obtain ⟨f1, f2, cell, f3, f4, f5⟩ := zSt_obj hC h55 hT.2.2.2 g hb2 (by omega)
          refine ⟨f1, zAnyS f3 f4 ?_⟩
          rw [eb6] at f5
          exact f5
    · exact zPP_none q (if_neg hz)
theorem zp_checkcast {c0 : Nat} (C : zCx ML SR p l R s m args meth c D A ρs hc h0 h1 k lv y cc ret hh) (ev : zEv ML SR k y ret cc pc nx (.checkcast c0)) (q : zPP p l e R s m args below meth c Qf D A ρs hc h0 h1 (zML k) nx (.checkcast c0) L S h) : ZGo p l e R s m args below meth c Qf D A ρs hc h0 (zML k) pc L S h := by
  obtain ⟨hx, hst, hb, hml, hown, hnm, hret, hlk, htb, hts, hT, hC, h55, hA, hR, hR2⟩ := C
  rcases S with _ | ⟨a | a | (_ | a) | a, S⟩
  · exact zPP_none q rfl
  · exact zPP_none q rfl
  · exact zPP_none q rfl
  · obtain ⟨rfl, i, d, hl⟩ := ev
    exact zs_castN hx hb hown (hts _ hl) d (zPP_some q rfl).2
  · by_cases hz : zCX c0 (hk h a).1 a = true
    · have q := (zPP_some q (if_pos hz)).2
      obtain ⟨rfl, i, d, hl⟩ := ev
      have hz2 := zCX_ok hT.1 hz
      exact zs_cast hx hb hown hC h55 hT.2.2.2 (hts _ hl) hz2.1 hz2.2 d q
    · exact zPP_none q (if_neg hz)
  · exact zPP_none q rfl
theorem zp_instanceof {c0 : Nat} (C : zCx ML SR p l R s m args meth c D A ρs hc h0 h1 k lv y cc ret hh) (ev : zEv ML SR k y ret cc pc nx (.instanceof c0)) (q : zPP p l e R s m args below meth c Qf D A ρs hc h0 h1 (zML k) nx (.instanceof c0) L S h) : ZGo p l e R s m args below meth c Qf D A ρs hc h0 (zML k) pc L S h := by
  obtain ⟨hx, hst, hb, hml, hown, hnm, hret, hlk, htb, hts, hT, hC, h55, hA, hR, hR2⟩ := C
  rcases S with _ | ⟨a | a | (_ | a) | a, S⟩
  · exact zPP_none q rfl
  · exact zPP_none q rfl
  · exact zPP_none q rfl
  · exact zPP_none q rfl
  · by_cases hz : zCX c0 (hk h a).1 a = true
    · have q := (zPP_some q (if_pos hz)).2
      obtain ⟨rfl, i, d, hl⟩ := ev
      have hz2 := zCX_ok hT.1 hz
      exact zs_inst hx hb hown hC h55 hT.2.2.2 (hts _ hl) hz2.1 hz2.2 d q
    · exact zPP_none q (if_neg hz)
  · exact zPP_none q rfl
theorem zp_copy (C : zCx ML SR p l R s m args meth c D A ρs hc h0 h1 k lv y cc ret hh) (ev : zEv ML SR k y ret cc pc nx (.monitorenter)) (q : zPP p l e R s m args below meth c Qf D A ρs hc h0 h1 (zML k) nx (.monitorenter) L S h) : ZGo p l e R s m args below meth c Qf D A ρs hc h0 (zML k) pc L S h := by
  obtain ⟨hx, hst, hb, hml, hown, hnm, hret, hlk, htb, hts, hT, hC, h55, hA, hR, hR2⟩ := C
  rcases S with _ | ⟨z | z | (_ | z) | z, S⟩
  · exact zPP_none q rfl
  rotate_left
  · exact zPP_none q rfl
  · exact zPP_none q rfl
  · exact zPP_none q rfl
  · exact zPP_none q rfl
  rcases S with _ | ⟨y0 | y0 | (_ | y0) | y0, S⟩
  · exact zPP_none q rfl
  rotate_left
  · exact zPP_none q rfl
  · exact zPP_none q rfl
  · exact zPP_none q rfl
  · exact zPP_none q rfl
  rcases S with _ | ⟨b | b | (_ | b) | b, S⟩
  · exact zPP_none q rfl
  · exact zPP_none q rfl
  · exact zPP_none q rfl
  · exact zPP_none q rfl
  rotate_left
  · exact zPP_none q rfl
  rcases S with _ | ⟨x | x | (_ | x) | x, S⟩
  · exact zPP_none q rfl
  rotate_left
  · exact zPP_none q rfl
  · exact zPP_none q rfl
  · exact zPP_none q rfl
  · exact zPP_none q rfl
  rcases S with _ | ⟨a | a | (_ | a) | a, S⟩
  · exact zPP_none q rfl
  · exact zPP_none q rfl
  · exact zPP_none q rfl
  · exact zPP_none q rfl
  rotate_left
  · exact zPP_none q rfl
  by_cases hz : ((hk h a).1 = (hk h b).1 ∧ ((hk h a).1 = 2 ∨ (hk h a).1 = 4)) ∧ (0 ≤ x ∧ 0 ≤ y0 ∧ 0 ≤ z ∧ x + z ≤ ((hk h a).2 : Int) ∧ y0 + z ≤ ((hk h b).2 : Int)) ∧ a ≠ b ∧ zNC ≤ b ∧ zw S ≤ 8
  · have q := (zPP_some q (if_pos hz)).2
    obtain ⟨rfl, i, d, hl⟩ := ev
    exact zs_copy hx hb hml hown hC h55 hT.2.2.2 (hts _ hl) (hts _ zCp1) (hts _ zCp2) (hts _ zCp3) hz.1 hz.2.1 hz.2.2.1 hz.2.2.2.1 hz.2.2.2.2 (by omega) (by omega) d q
  · exact zPP_none q (if_neg hz)
theorem zp_swap (C : zCx ML SR p l R s m args meth c D A ρs hc h0 h1 k lv y cc ret hh) (ev : zEv ML SR k y ret cc pc nx (.swap)) (q : zPP p l e R s m args below meth c Qf D A ρs hc h0 h1 (zML k) nx (.swap) L S h) : ZGo p l e R s m args below meth c Qf D A ρs hc h0 (zML k) pc L S h := by
  obtain ⟨hx, hst, hb, hml, hown, hnm, hret, hlk, htb, hts, hT, hC, h55, hA, hR, hR2⟩ := C
  rcases S with _ | ⟨a | a | (_ | a) | a, S⟩
  · exact zPP_none q rfl
  · exact zPP_none q rfl
  · exact zPP_none q rfl
  · exact zPP_none q rfl
  rotate_left
  · exact zPP_none q rfl
  by_cases hz : (hk h a).1 = 2 ∧ zNC ≤ a ∧ zw S ≤ 8
  · have gr := (zPP_some q (if_pos hz)).1
    have q := (zPP_some q (if_pos hz)).2
    obtain ⟨rfl, i, d, hl⟩ := ev
    refine ZGo_low fun hlow _ hg1 hg2 => ?_
    have gr : hn h + 1 ≤ hn h1 ∧ hs h + (hk h a).2 ≤ hs h1 := gr
    exact zs_clone hx hb hml hown hA hT.2.2.2 (hts _ hl) (hts _ zClB1) (hts _ zCl2) (hts _ zCl3) (hts _ zClB4) (hT.1 _ zClB5) (by first | exact Or.inl ⟨hz.1, rfl⟩ | exact Or.inr ⟨hz.1, rfl⟩) hz.2.1 hz.2.2 (by omega) (by omega) (by omega) (by omega) d q
  · exact zPP_none q (if_neg hz)
theorem zp_dup2_x2 (C : zCx ML SR p l R s m args meth c D A ρs hc h0 h1 k lv y cc ret hh) (ev : zEv ML SR k y ret cc pc nx (.dup2_x2)) (q : zPP p l e R s m args below meth c Qf D A ρs hc h0 h1 (zML k) nx (.dup2_x2) L S h) : ZGo p l e R s m args below meth c Qf D A ρs hc h0 (zML k) pc L S h := by
  obtain ⟨hx, hst, hb, hml, hown, hnm, hret, hlk, htb, hts, hT, hC, h55, hA, hR, hR2⟩ := C
  rcases S with _ | ⟨a | a | (_ | a) | a, S⟩
  · exact zPP_none q rfl
  · exact zPP_none q rfl
  · exact zPP_none q rfl
  · exact zPP_none q rfl
  rotate_left
  · exact zPP_none q rfl
  by_cases hz : (hk h a).1 = 4 ∧ zNC ≤ a ∧ zw S ≤ 8
  · have gr := (zPP_some q (if_pos hz)).1
    have q := (zPP_some q (if_pos hz)).2
    obtain ⟨rfl, i, d, hl⟩ := ev
    refine ZGo_low fun hlow _ hg1 hg2 => ?_
    have gr : hn h + 1 ≤ hn h1 ∧ hs h + (hk h a).2 ≤ hs h1 := gr
    exact zs_clone hx hb hml hown hA hT.2.2.2 (hts _ hl) (hts _ zClJ1) (hts _ zCl2) (hts _ zCl3) (hts _ zClJ4) (hT.1 _ zClJ5) (by first | exact Or.inl ⟨hz.1, rfl⟩ | exact Or.inr ⟨hz.1, rfl⟩) hz.2.1 hz.2.2 (by omega) (by omega) (by omega) (by omega) d q
  · exact zPP_none q (if_neg hz)
end
