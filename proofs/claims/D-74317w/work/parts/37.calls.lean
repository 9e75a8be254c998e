/-! Calls. -/
def zRun (p : Program) (l : Launch) (e : Env) (R : Room) (s : State) (m : MethodId) (args : Array Value) (below : List Frame) (meth : Method) (c : Code) (H : Heap) (locs : List Loc) (cells slots mc ms : Nat) (g : JFrame) (rest : List Value) (Qa : State → Outcome → State → Prop) (XC : String → Addr → State → State → Prop) (free : Addr → Prop) (n3 : Nat) : Prop :=
  ∀ T : State, T.heap = H → Stand p l e R s m args below meth c T locs cells slots →
    (∃ (v : Option Value) (st₀ t T' : State) (L : List Loc), st₀.heap = H ∧ Stand p l e R s m args below meth c T' (locs ++ L) (cells + mc) (slots + ms) ∧ (∀ q ∈ L, free q.base) ∧ T'.heap = t.heap ∧ T'.vm = t.vm ∧ Qa st₀ (.returned v) t ∧
      Goes p e below T g T' { g with pc := g.pc + n3, stack := v.toList ++ rest }) ∨
    (∃ (q : Addr) (st₀ t T' : State) (L : List Loc) (E : String) (ce : Cell), st₀.heap = H ∧ Stand p l e R s m args below meth c T' (locs ++ L) (cells + mc) (slots + ms) ∧ (∀ z ∈ L, free z.base) ∧ T'.heap = t.heap ∧ T'.vm = t.vm ∧ XC E q st₀ t ∧ t.heap[q]? = some ce ∧ ce.vm = .none ∧ s.vm.findClass E = some ce.cls ∧
      Steps p.tables e below (T.setTop g) ((T'.setTop { g with stack := rest }).pushFrame (.throwing q)))
theorem zpop_eq : ∀ (n : Nat) (acc S as S' : List V), zpop n acc S = some (as, S') → as.length = acc.length + n ∧ ∃ b, as = b ++ acc ∧ S = b.reverse ++ S' := by
  intro n
  induction n with
  | zero =>
    intro acc S as S' h
    cases h
    exact ⟨rfl, [], rfl, rfl⟩
  | succ n ih =>
    intro acc S as S' h
    cases S with
    | nil => cases h
    | cons v S =>
      obtain ⟨h1, b, h2, h3⟩ := ih (v :: acc) S as S' h
      refine ⟨by rw [h1, List.length_cons]; omega, b ++ [v], by rw [h2, List.append_assoc]; rfl, ?_⟩
      rw [h3, List.reverse_append]
      rfl
theorem zpop_0 {n : Nat} {S as S' : List V} (h : zpop n [] S = some (as, S')) : as.length = n ∧ S = as.reverse ++ S' := by
  obtain ⟨h1, b, h2, h3⟩ := zpop_eq n [] S as S' h
  rw [List.append_nil] at h2
  subst h2
  exact ⟨by rw [h1]; simp, h3⟩
/-- the receiver stands deepest -/
theorem zrecv_as {n a : Nat} {S as S' : List V} (h : zpop (n + 1) [] S = some (as, S')) (hr : zrecv (n + 1) S = some a) : ∃ as', as = vA (some a) :: as' ∧ as'.length = n := by
  obtain ⟨h1, h2⟩ := zpop_0 h
  cases as with
  | nil => simp at h1
  | cons v as' =>
    have hl : as'.length = n := by simpa using h1
    refine ⟨as', ?_, hl⟩
    have e : S[n]? = some v := by
      rw [h2, List.reverse_cons, List.append_assoc, List.getElem?_append_right (by simp [hl]), List.length_reverse, hl, Nat.sub_self]
      rfl
    have hr : (match S[n]? with | some (.inr (.inr (.inl (some a)))) => some a | _ => none) = some a := hr
    rw [e] at hr
    rcases v with x | x | (_ | b) | x
    · cases hr
    · cases hr
    · cases hr
    · have : b = a := Option.some.inj hr
      rw [this]; rfl
    · cases hr
theorem zML_all : zML_t.all (fun g => g.all (fun n => decide (n ≤ 21))) = true := by decide +kernel
theorem zML_le (m : Nat) : zML m ≤ 21 := by
  unfold zML
  cases h1 : zML_t[m / 16]? with
  | none => exact Nat.zero_le _
  | some g =>
    cases h2 : g[m % 16]? with
    | none => simp [h2]
    | some n =>
      have := List.all_eq_true.mp (List.all_eq_true.mp zML_all g (List.mem_of_getElem? h1)) n (List.mem_of_getElem? h2)
      simpa [h2] using of_decide_eq_true this
theorem zVT_mem {v c m : Nat} (h : zVT v c = some m) : (c, m) ∈ zlk [] v zVT_t := by
  unfold zVT at h
  revert h
  generalize zlk [] v zVT_t = l
  intro h
  induction l with
  | nil => cases h
  | cons e l ih =>
    have h : (bif Nat.beq e.1 c then some e.2 else zlk none c (l.map (fun e => (e.1, some e.2)))) = some m := h
    cases hb : Nat.beq e.1 c with
    | true =>
      rw [hb] at h
      have h1 := Nat.eq_of_beq_eq_true hb
      have h2 : e.2 = m := Option.some.inj h
      rw [← h1, ← h2]
      exact List.mem_cons_self
    | false =>
      rw [hb] at h
      exact List.mem_cons_of_mem _ (ih h)
def zMet (l : Launch) (SR : List (String × Nat × String × Nat)) (D : va_G) (A : Nat → Prop) (ρ : Nat → Value) (κ : Nat → ClassId) (hc : MH) (m lv : Nat) (I : zIs) (as : List V) (h : MH) (o' : ZO) (h' : MH) : Prop :=
  vx_Met l I.1 (zCw I.1 I.2.1 (zML m) I.2.2.1 I.2.2.2 :: lw_all) ⟨zF m lv, hn h' - hn h, hs h' - hs h, 40 * zF m lv⟩ (zPc SR D A ρ κ hc h as) (zQ D A ρ hc h o' h') (zX D A ρ hc h o' h') (hn h' - hn h) (hs h' - hs h) A
/-- what the tables say of one method -/
def zHdr (m : Nat) (I : zIs) : Prop := plainFor I.1 = true ∧ zCw I.1 I.2.1 (zML m) I.2.2.1 I.2.2.2 ∈ lw_all ∧ (I.1.cls ≠ "java/lang/invoke/MethodHandle" ∧ I.1.cls ≠ "java/lang/invoke/VarHandle") ∧ Cond.initialized I.1.cls ∈ lw_all ∧ zHok I.1.cls I.2.2.2 (zHD m)
section
variable {ML : List (Nat × zIs)} {SR : List (String × Nat × String × Nat)} {p : Program} {l : Launch} {e : Env} {R : Room} {s : State} {m : MethodId} {args : Array Value} {below : List Frame} {meth : Method} {c : Code} {Qf : State → Prop} {D : va_G} {A : Nat → Prop} {ρs : Nat → Value} {hc h0 h1 : MH} {k lv pc nx : Nat} {y : MethodName} {cc : ByteArray} {ret : Option FieldType} {hh : List (Nat × Nat × Nat × Nat)} {L S : List V} {h : MH}
theorem zSt_back {κ κ' : Nat → ClassId} {ρ ρ' : Nat → Value} {H : Heap} {locs Lc : List Loc} {h' : MH} {st₀ t T' : State} {cells slots : Nat} (g : zSt D A ρs hc h0 s ρ κ h H locs) (hst : st₀.heap = H) (X' : Stand p l e R s m args below meth c T' (locs ++ Lc) cells slots) (hL : ∀ q ∈ Lc, A q.base) (e1 : T'.heap = t.heap) (e2 : T'.vm = t.vm) (he : zEnd D A ρ hc h h' t ρ' κ') (hF : va_F A st₀ t) :
    zSt D A ρs hc h0 s ρ' κ' h' T'.heap (locs ++ Lc) := by
  obtain ⟨f1, f2, f3, f4, f5⟩ := he
  have hvm : t.vm.Alike s.vm := by rw [← e2]; exact X'.warmed.alike.symm
  have hS := g.2.2.1
  refine ⟨fun a ha => (f1 a (Nat.lt_of_lt_of_le ha g.2.2.2.2.1.1)).trans (g.1 a ha), ?_, ⟨?_, fun q q1 q2 => ?_, fun q hq => ?_⟩, f3, ⟨Nat.le_trans g.2.2.2.2.1.1 f4.1, Nat.le_trans g.2.2.2.2.1.2 f4.2⟩, f5⟩
  · rw [e1]; exact f2.moved hvm
  · have hF1 := hF.1
    rw [hst] at hF1
    rw [e1]; exact Nat.le_trans hS.1 hF1
  · rw [e1, hF.2 q (by rw [hst]; exact Nat.lt_of_lt_of_le q1 hS.1) q2, hst]
    exact hS.2.1 q q1 q2
  · rcases List.mem_append.mp hq with hq | hq
    · exact hS.2.2 q hq
    · exact hL q hq
/-- behind a call -/
theorem zr_call {n3 : Nat} {o o' : ZO} {h' : MH} {S' : List V} (C : zCx ML SR p l R s m args meth c D A ρs hc h0 h1 k lv y cc ret hh) (hH : zHok y.cls hh (zHD k)) (hgr : hn h ≤ hn h' ∧ hs h ≤ hs h') (hS : ∀ v ∈ S', v ∈ S)
    (hrun : ∀ (ρ : Nat → Value) (κ : Nat → ClassId) (H : Heap) (locs : List Loc) (ls : Array Slot), zSt D A ρs hc h0 s ρ κ h H locs → zLoc ρ (zML k) L ls → (∀ v ∈ L, vok (hn h) v) → (∀ v ∈ S, vok (hn h) v ∧ v ≠ vJ) → zRun p l e R s m args below meth c H locs (hn h - hn h0) (hs h - hs h0) (hn h' - hn h) (hs h' - hs h) (F0 m pc ls (S.map (cv ρ))) (S'.map (cv ρ)) (zQ D A ρ hc h o' h' #[]) (zX D A ρ hc h o' h') A n3)
    (k1 : o' = .inl none → ZGo p l e R s m args below meth c (zQf D A ρs hc h0 o h1 below args s) D A ρs hc h0 (zML k) (pc + n3) L S' h')
    (k2 : ∀ v, o' = .inl (some v) → ZGo p l e R s m args below meth c (zQf D A ρs hc h0 o h1 below args s) D A ρs hc h0 (zML k) (pc + n3) L (v :: S') h')
    (k3 : ∀ e0, o' = .inr e0 → (∀ t, zHF pc (hk h' e0).1 (zHD k) = some t → ZGo p l e R s m args below meth c (zQf D A ρs hc h0 o h1 below args s) D A ρs hc h0 (zML k) t L [vA (some e0)] h') ∧ (zHF pc (hk h' e0).1 (zHD k) = none → o = .inr e0 ∧ h1 = h')) :
    ZGo p l e R s m args below meth c (zQf D A ρs hc h0 o h1 below args s) D A ρs hc h0 (zML k) pc L S h := by
  intro ρ κ H locs ls g1 g2 g3 g4 T hT X
  have c1 : hn h - hn h0 + (hn h' - hn h) = hn h' - hn h0 := by have := g1.2.2.2.2.1.1; omega
  have c2 : hs h - hs h0 + (hs h' - hs h) = hs h' - hs h0 := by have := g1.2.2.2.2.1.2; omega
  have gL : ∀ v ∈ L, vok (hn h') v := fun v hv => vok_mono hgr.1 (g3 v hv)
  have gS : ∀ v ∈ S', vok (hn h') v ∧ v ≠ vJ := fun v hv => ⟨vok_mono hgr.1 (g4 v (hS v hv)).1, (g4 v (hS v hv)).2⟩
  have hmap : ∀ ρ' : Nat → Value, (∀ a, a < hn h → ρ' a = ρ a) → S'.map (cv ρ') = S'.map (cv ρ) := fun ρ' hρ => List.map_congr_left fun w hw => cv_ext hρ (g4 w (hS w hw)).1
  rcases hrun ρ κ H locs ls g1 g2 g3 g4 T hT X with ⟨v, st₀, t, T', Lc, hst, X', hL, e1, e2, hq, goes⟩ | ⟨q, st₀, t, T', Lc, E, ce, hst, X', hL, e1, e2, hx, hce, hcv, hcl, st⟩
  · obtain ⟨ρ', κ', hend, hF, hm0⟩ := hq
    rw [c1, c2] at X'
    have g1' := zSt_back g1 hst X' hL e1 e2 hend hF
    have g2' := zLoc_ext g2 hend.1 g3
    rcases o' with (_ | w) | e0
    · have hv : v = none := Outcome.returned.inj hm0
      subst hv
      have kk := k1 rfl ρ' κ' T'.heap (locs ++ Lc) ls g1' g2' gL gS
      rw [hmap ρ' hend.1] at kk
      obtain ⟨t1, a1, b1⟩ := kk T' rfl X'
      exact ⟨t1, goes _ a1, b1⟩
    · obtain ⟨hw, hv⟩ := hm0
      have hv : v = some (cv ρ' w) := Outcome.returned.inj hv
      subst hv
      have kk := k2 w rfl ρ' κ' T'.heap (locs ++ Lc) ls g1' g2' gL (all1 hw gS)
      have kk : W p l e R s m args below meth c T'.heap (locs ++ Lc) _ _ _ (F0 m (pc + n3) ls (cv ρ' w :: S'.map (cv ρ'))) := kk
      rw [hmap ρ' hend.1] at kk
      obtain ⟨t1, a1, b1⟩ := kk T' rfl X'
      exact ⟨t1, goes _ a1, b1⟩
    · exact hm0.elim
  · obtain ⟨ρ', κ', e0, ho, hend, hF, ⟨he0, hkd⟩, hρe, hE⟩ := hx
    rw [c1, c2] at X'
    have g1' := zSt_back g1 hst X' hL e1 e2 hend hF
    have g2' := zLoc_ext g2 hend.1 g3
    obtain ⟨k4, k5⟩ := k3 e0 ho
    obtain ⟨q', f1, f2⟩ := zr_thrown (rest := S'.map (cv ρ)) C hH hkd g1' g2' gL he0 k4 k5
    have hqq : q' = q := by
      rw [hρe] at f1
      exact (Value.ref.inj f1).symm
    subst hqq
    obtain ⟨t1, a1, b1⟩ := f2 T' rfl X'
    exact ⟨t1, st.trans a1, b1⟩
theorem zr_pre {κ : Nat → ClassId} {ρ : Nat → Value} {H : Heap} {locs : List Loc} {as : List V} (C : zCx ML SR p l R s m args meth c D A ρs hc h0 h1 k lv y cc ret hh) (g1 : zSt D A ρs hc h0 s ρ κ h H locs) {U : State} (hU : U.heap = H) (hW : s.WarmedH U.vm) : zPc SR D A ρ κ hc h as (as.map (cv ρ)).toArray U := by
  obtain ⟨hx, hst, hb, hml, hown, hnm, hret, hlk, htb, hts, hT, hC, h55, hA, hR, hR2⟩ := C
  subst hU
  exact ⟨rfl, g1.2.1.moved hW.alike, hT.moved hW, hC.moved hW (fun q q1 q2 => g1.2.2.1.2.1 q q1 q2) (zSt_lo h55 g1), fun q hq => hA q (Nat.le_trans g1.2.2.1.1 hq), g1.2.2.2.1, g1.2.2.2.2.2⟩
theorem zr_room {m' lv' : Nat} (C : zCx ML SR p l R s m args meth c D A ρs hc h0 h1 k lv y cc ret hh) (hF : zF m' lv' + 1 ≤ zF k lv) : zF m' lv' + 1 ≤ R.frames ∧ 8 + (zML m' + 11) + 40 * zF m' lv' ≤ R.locals := by
  obtain ⟨hx, hst, hb, hml, hown, hnm, hret, hlk, htb, hts, hT, hC, h55, hA, hR, hR2⟩ := C
  have := zML_le m'
  omega
theorem zr_static {κ : Nat → ClassId} {ρ : Nat → Value} {H : Heap} {locs : List Loc} {ls : Array Slot} {as S' : List V} {m' lv' i n : Nat} {I : zIs} {o' : ZO} {h' : MH} (C : zCx ML SR p l R s m args meth c D A ρs hc h0 h1 k lv y cc ret hh) (hI : zHdr m' I) (d : decode cc pc = .ok (.invokestatic i, 3)) (hpn : zpn I.1.desc n) (hst : Cond.static I.1 ∈ lw_all) (hl : Cond.methodLink y.cls i I.1 ∈ lw_all ∨ (I.2.2.2 = [] ∧ ∃ host, Cond.methodLinkNest y.cls i I.1 host ∈ zNw)) (hM : zMet l SR D A ρ κ hc m' lv' I as h o' h') (hF : zF m' lv' + 1 ≤ zF k lv)
    (g1 : zSt D A ρs hc h0 s ρ κ h H locs) (g2 : zLoc ρ (zML k) L ls) (hS' : ∀ v ∈ S', vok (hn h) v ∧ v ≠ vJ) (hlen : as.length = n) (hS : S = as.reverse ++ S') (hzw : zw S' ≤ 8) (hgr : (hn h ≤ hn h' ∧ hn h' ≤ hn h1) ∧ (hs h ≤ hs h' ∧ hs h' ≤ hs h1)) :
    zRun p l e R s m args below meth c H locs (hn h - hn h0) (hs h - hs h0) (hn h' - hn h) (hs h' - hs h) (F0 m pc ls (S.map (cv ρ))) (S'.map (cv ρ)) (zQ D A ρ hc h o' h' #[]) (zX D A ρ hc h o' h') A 3 := by
  have hroom := zr_room C hF
  have hpre : PreS s H (zPc SR D A ρ κ hc h as) (as.map (cv ρ)) := ⟨zPc_blind, fun U hU hW => zr_pre C g1 hU hW⟩
  obtain ⟨hx, hstt, hb, hml, hown, hnm, hret, hlk, htb, hts, hT, hC, h55, hA, hR, hR2⟩ := C
  have hsum := zw_sum g1.2.2.2.2.2 hS'
  have hg0 := g1.2.2.2.2.1
  have hfit : hn h - hn h0 + (hn h' - hn h) ≤ R.cells ∧ hs h - hs h0 + (hs h' - hs h) ≤ R.slots := by omega
  have hstack : (S.map (cv ρ)) = (as.map (cv ρ)).reverse ++ S'.map (cv ρ) := by rw [hS, List.map_append, List.map_reverse]
  obtain ⟨y', cc', ret', hh'⟩ := I
  obtain ⟨i1, i2, i3, i4, i5⟩ := hI
  have hpn : (parseMethodDescriptor y'.desc).map (fun d => d.parameters.length) = some n := hpn
  have hst : Cond.static y' ∈ lw_all := hst
  have i2 : zCw y' cc' (zML m') ret' hh' ∈ lw_all := i2
  have i4 : Cond.initialized y'.cls ∈ lw_all := i4
  have i3 : y'.cls ≠ "java/lang/invoke/MethodHandle" ∧ y'.cls ≠ "java/lang/invoke/VarHandle" := i3
  have hlen2 : (as.map (cv ρ)).length = n := by rw [List.length_map]; exact hlen
  have hmr : 2 * (F0 m pc ls (S.map (cv ρ))).monitorRoom + ((S'.map (cv ρ)).map fun v => v.category).sum ≤ 8 := by
    rw [hsum]
    show 0 + zw S' ≤ 8
    omega
  cases hh' with
  | nil =>
    have i2 : Cond.code y' cc' (zML m') ret' ∈ lw_all := i2
    rcases hl with hl | ⟨-, host, hl⟩
    · have hl : Cond.methodLink y.cls i y' ∈ lw_all := hl
      exact vx_runS (As := as.map (cv ρ)) (own := y.cls) (Ts := lw_all) ⟨hx, hb, hml, hown, hts⟩ hM ⟨callB_of n hts (lw_meth i2) rfl rfl rfl (hts _ i4) (hts _ hl) ⟨i3.1, i3.2, hpn⟩ hroom, hts _ hst⟩ hpre rfl hlen2 g2.2.1 hstack hmr d hfit
    · exact vx_runSN (As := as.map (cv ρ)) (own := y.cls) (host := host) (Ts := lw_all) ⟨hx, hb, hml, hown, hts⟩ hM ⟨va_cnB n hts (lw_meth i2) rfl rfl rfl (hT.1 _ hl) (hts _ i4) ⟨i3.1, i3.2, hpn⟩ hroom, hts _ hst, trivial⟩ hpre rfl hlen2 g2.2.1 hstack hmr d hfit
  | cons r rs =>
    have i2 : Cond.codeWith y' cc' (zML m') ret' (r :: rs) ∈ lw_all := i2
    rcases hl with hl | ⟨hl, -⟩
    · have hl : Cond.methodLink y.cls i y' ∈ lw_all := hl
      have hG : GoodIn lw_all (va_wsS y.cls i y' (Cond.codeWith y' cc' (zML m') ret' (r :: rs) :: lw_all)) := lw_good (fun w hw => by
        unfold va_wsS at hw
        simp only [List.cons_append, List.nil_append, List.mem_cons] at hw
        rcases hw with rfl | rfl | rfl | rfl | hw
        · exact hl
        · exact hst
        · exact i4
        · exact i2
        · exact hw)
      exact vx_runSX (As := as.map (cv ρ)) (own := y.cls) (Ts := lw_all) ⟨hx, hb, hml, hown, hts⟩ hM (vx_cwSW n hts hG rfl rfl rfl ⟨i3.1, i3.2, hpn⟩ hroom) hpre rfl hlen2 g2.2.1 hstack hmr d hfit
    · cases hl
theorem zsel_priv {C : String} {x : MethodName} {s : State} {args : Array Value} {cC : ClassId} (hC : s.vm.findClass C = some cC) (hy : x.cls ≠ "java/lang/invoke/MethodHandle" ∧ x.cls ≠ "java/lang/invoke/VarHandle") (hsm : (Cond.sameMethod x.cls x.cls x.name x.desc).before args s = true) (hpriv : (Cond.privateMethod x).before args s = true) (hinst : (Cond.instanceMethod x).before args s = true) : (Cond.selects C x x).before args s = true := by
  obtain ⟨cn, ck, r1, hcn, hck, hni, hf, hn1⟩ := Cond.sameMethod_found hsm
  obtain ⟨mk, methM, hnamed, hmethM, -, -⟩ := Cond.instanceMethod_spec hinst
  have hfound : s.methodFound? x.cls x.name x.desc = some mk := State.methodFound?_of_named hnamed hy
  have hcls : mk.cls = cn := Option.some.inj ((findClass_of_methodNamed hnamed).symm.trans hcn)
  have hsel : selectMethod {} s.vm cC mk = .method mk := selectMethod_private hmethM (Cond.privateMethod_at hpriv mk methM hnamed hmethM)
  simp only [Cond.before, Cond.holds, Cond.value, hC, hfound, hnamed, hsel, hcls, hck]
  simp; exact hni
theorem zsel_same {C owner : String} {x y' : MethodName} {s : State} {args : Array Value} (ho : owner ≠ "java/lang/invoke/MethodHandle" ∧ owner ≠ "java/lang/invoke/VarHandle") (hsm : (Cond.sameMethod x.cls owner x.name x.desc).before args s = true) (hsel : (Cond.selects C ⟨owner, x.name, x.desc⟩ y').before args s = true) : (Cond.selects C x y').before args s = true := by
  obtain ⟨cn, ck, r1, hcn, hck, hni, hf, hn1⟩ := Cond.sameMethod_found hsm
  have hfound : s.methodFound? owner x.name x.desc = some r1 := State.methodFound?_of_named (x := ⟨owner, x.name, x.desc⟩) hn1 ho
  simp only [Cond.before, Cond.holds, Cond.value, hf, hfound] at hsel ⊢
  exact hsel
theorem zInst {kd : Nat} (h1 : 100 ≤ kd) (h2 : kd ≤ 123) : ∃ n, Cond.instantiable (zcn (kd - 100)) n ∈ lw_all := by
  rcases Nat.lt_or_ge kd 120 with h3 | h3
  · obtain ⟨C, T, N, ty, hC⟩ := zC_all h1 (by omega)
    refine ⟨N, ?_⟩
    have : zcn (kd - 100) = C := by unfold zcn; rw [hC.1]
    rw [this]
    exact hC.2.2.2.2.2.2.1
  · refine ⟨6, ?_⟩
    rcases (show kd = 120 ∨ kd = 121 ∨ kd = 122 ∨ kd = 123 by omega) with z | z | z | z <;> subst z
    · exact q912
    · exact q1571
    · exact q1262
    · exact q349
theorem zr_special {κ : Nat → ClassId} {ρ : Nat → Value} {H : Heap} {locs : List Loc} {ls : Array Slot} {as' S' : List V} {m' lv' i n a : Nat} {I : zIs} {o' : ZO} {h' : MH} (C : zCx ML SR p l R s m args meth c D A ρs hc h0 h1 k lv y cc ret hh) (hI : zHdr m' I) (d : decode cc pc = .ok (.invokespecial i, 3)) (hpn : zpn I.1.desc n) (hnil : I.2.2.2 = []) (hinst : Cond.instanceMethod I.1 ∈ lw_all) (hl : (I.1.name = "<init>" ∧ I.2.2.1 = none ∧ zLn y.cls i I.1) ∨ (I.1.name ≠ "<init>" ∧ Cond.methodLink y.cls i I.1 ∈ lw_all ∧ Cond.sameMethod I.1.cls I.1.cls I.1.name I.1.desc ∈ lw_all ∧ Cond.superclass y.cls I.1.cls ∈ lw_all)) (hM : zMet l SR D A ρ κ hc m' lv' I (vA (some a) :: as') h o' h') (hF : zF m' lv' + 1 ≤ zF k lv)
    (g1 : zSt D A ρs hc h0 s ρ κ h H locs) (g2 : zLoc ρ (zML k) L ls) (hS' : ∀ v ∈ S', vok (hn h) v ∧ v ≠ vJ) (hlen : as'.length = n) (hS : S = (vA (some a) :: as').reverse ++ S') (hzw : zw S' ≤ 8) (hgr : (hn h ≤ hn h' ∧ hn h' ≤ hn h1) ∧ (hs h ≤ hs h' ∧ hs h' ≤ hs h1)) (ha : a < hn h) (hk0 : 100 ≤ (hk h a).1) :
    zRun p l e R s m args below meth c H locs (hn h - hn h0) (hs h - hs h0) (hn h' - hn h) (hs h' - hs h) (F0 m pc ls (S.map (cv ρ))) (S'.map (cv ρ)) (zQ D A ρ hc h o' h' #[]) (zX D A ρ hc h o' h') A 3 := by
  have hroom := zr_room C hF
  have hpre0 := fun (U : State) (hU : U.heap = H) (hW : s.WarmedH U.vm) => zr_pre (as := vA (some a) :: as') C g1 hU hW
  obtain ⟨hx, hstt, hb, hml, hown, hnm, hret, hlk, htb, hts, hT, hC, h55, hA, hR, hR2⟩ := C
  obtain ⟨er, e123, cell, c1, c2, c3⟩ := zSt_obj hC h55 hT.2.2.2 g1 ha hk0
  have hargs : ((vA (some a) :: as').map (cv ρ)) = .ref (ca ρ a) :: as'.map (cv ρ) := by rw [List.map_cons]; show ρ a :: _ = _; rw [er]
  rw [hargs] at hpre0
  have hsum := zw_sum g1.2.2.2.2.2 hS'
  have hg0 := g1.2.2.2.2.1
  have hfit : hn h - hn h0 + (hn h' - hn h) ≤ R.cells ∧ hs h - hs h0 + (hs h' - hs h) ≤ R.slots := by omega
  have hstack : (S.map (cv ρ)) = (as'.map (cv ρ)).reverse ++ .ref (ca ρ a) :: S'.map (cv ρ) := by
    rw [hS, List.map_append, List.map_reverse, hargs, List.reverse_cons, List.append_assoc]
    rfl
  have hmr : 2 * (F0 m pc ls (S.map (cv ρ))).monitorRoom + ((S'.map (cv ρ)).map fun v => v.category).sum ≤ 8 := by
    rw [hsum]
    show 0 + zw S' ≤ 8
    omega
  have hlen2 : (as'.map (cv ρ)).length = n := by rw [List.length_map]; exact hlen
  obtain ⟨y', cc', ret', hh'⟩ := I
  obtain ⟨i1, i2, i3, i4, i5⟩ := hI
  have i2 : zCw y' cc' (zML m') ret' hh' ∈ lw_all := i2
  have i4 : Cond.initialized y'.cls ∈ lw_all := i4
  have i3 : y'.cls ≠ "java/lang/invoke/MethodHandle" ∧ y'.cls ≠ "java/lang/invoke/VarHandle" := i3
  have hnil : hh' = [] := hnil
  subst hnil
  have i2 : Cond.code y' cc' (zML m') ret' ∈ lw_all := i2
  have hinst : Cond.instanceMethod y' ∈ lw_all := hinst
  have hpn : (parseMethodDescriptor y'.desc).map (fun d => d.parameters.length) = some n := hpn
  have hpre : PreS s H (zPc SR D A ρ κ hc h (vA (some a) :: as')) (.ref (ca ρ a) :: as'.map (cv ρ)) := ⟨zPc_blind, hpre0⟩
  rcases hl with ⟨hin, hrn, hl⟩ | ⟨hin, hl, hsm, hsu⟩
  · have hrn : ret' = none := hrn
    subst hrn
    have hin : y'.name = "<init>" := hin
    rcases hl with hl | ⟨host, hl⟩
    · have hl : Cond.methodLink y.cls i y' ∈ lw_all := hl
      exact vx_runI (As := as'.map (cv ρ)) (own := y.cls) (Ts := lw_all) ⟨hx, hb, hml, hown, hts⟩ hM ⟨callB_of n hts (lw_meth i2) rfl rfl rfl (hts _ i4) (hts _ hl) ⟨i3.1, i3.2, hpn⟩ hroom, hin, hts _ hinst⟩ hpre rfl hlen2 g2.2.1 hstack hmr d hfit
    · exact vx_runIN (As := as'.map (cv ρ)) (own := y.cls) (host := host) (Ts := lw_all) ⟨hx, hb, hml, hown, hts⟩ hM ⟨va_cnB n hts (lw_meth i2) rfl rfl rfl (hT.1 _ hl) (hts _ i4) ⟨i3.1, i3.2, hpn⟩ hroom, hin, hts _ hinst⟩ hpre rfl hlen2 g2.2.1 hstack hmr d hfit
  · obtain ⟨N, hN⟩ := zInst hk0 e123
    obtain ⟨cC, hat⟩ := classAt_of (hts _ hN)
    have hl : Cond.methodLink y.cls i y' ∈ lw_all := hl
    have hsm : Cond.sameMethod y'.cls y'.cls y'.name y'.desc ∈ lw_all := hsm
    have hsu : Cond.superclass y.cls y'.cls ∈ lw_all := hsu
    have hin : y'.name ≠ "<init>" := hin
    have hG : GoodIn lw_all (va_wsSU y.cls i y' (Cond.code y' cc' (zML m') ret' :: lw_all)) := lw_good (fun w hw => by
      unfold va_wsSU at hw
      simp only [List.cons_append, List.nil_append, List.mem_cons] at hw
      rcases hw with rfl | rfl | rfl | rfl | rfl | rfl | hw
      · exact hl
      · exact hsm
      · exact hsu
      · exact hinst
      · exact i4
      · exact i2
      · exact hw)
    exact vx_runSU (As := as'.map (cv ρ)) (own := y.cls) (Ts := lw_all) hat ⟨hx, hb, hml, hown, hts⟩ hM (va_cwSU n hts hG rfl rfl rfl ⟨hin, hpn⟩ hroom) ⟨zPc_blind, ⟨cell, c1, c2, c3⟩, hpre0⟩ rfl hlen2 g2.2.1 hstack hmr d hfit
theorem zr_virtual {x : MethodName} {κ : Nat → ClassId} {ρ : Nat → Value} {H : Heap} {locs : List Loc} {ls : Array Slot} {as' S' : List V} {m' lv' i n a : Nat} {I : zIs} {o' : ZO} {h' : MH} (C : zCx ML SR p l R s m args meth c D A ρs hc h0 h1 k lv y cc ret hh) (hI : zHdr m' I) (d : decode cc pc = .ok (.invokevirtual i, 3)) (hpn : zpn x.desc n) (hl : zVev y.cls i x (hk h a).1 I) (hM : zMet l SR D A ρ κ hc m' lv' I (vA (some a) :: as') h o' h') (hF : zF m' lv' + 1 ≤ zF k lv)
    (g1 : zSt D A ρs hc h0 s ρ κ h H locs) (g2 : zLoc ρ (zML k) L ls) (hS' : ∀ v ∈ S', vok (hn h) v ∧ v ≠ vJ) (hlen : as'.length = n) (hS : S = (vA (some a) :: as').reverse ++ S') (hzw : zw S' ≤ 8) (hgr : (hn h ≤ hn h' ∧ hn h' ≤ hn h1) ∧ (hs h ≤ hs h' ∧ hs h' ≤ hs h1)) (ha : a < hn h) (hk0 : 100 ≤ (hk h a).1) :
    zRun p l e R s m args below meth c H locs (hn h - hn h0) (hs h - hs h0) (hn h' - hn h) (hs h' - hs h) (F0 m pc ls (S.map (cv ρ))) (S'.map (cv ρ)) (zQ D A ρ hc h o' h' #[]) (zX D A ρ hc h o' h') A 3 := by
  have hroom := zr_room C hF
  have hpre0 := fun (U : State) (hU : U.heap = H) (hW : s.WarmedH U.vm) => zr_pre (as := vA (some a) :: as') C g1 hU hW
  obtain ⟨hx, hstt, hb, hml, hown, hnm, hret, hlk, htb, hts, hT, hC, h55, hA, hR, hR2⟩ := C
  obtain ⟨er, e123, cell, c1, c2, c3⟩ := zSt_obj hC h55 hT.2.2.2 g1 ha hk0
  have hargs : ((vA (some a) :: as').map (cv ρ)) = .ref (ca ρ a) :: as'.map (cv ρ) := by rw [List.map_cons]; show ρ a :: _ = _; rw [er]
  rw [hargs] at hpre0
  have hsum := zw_sum g1.2.2.2.2.2 hS'
  have hg0 := g1.2.2.2.2.1
  have hfit : hn h - hn h0 + (hn h' - hn h) ≤ R.cells ∧ hs h - hs h0 + (hs h' - hs h) ≤ R.slots := by omega
  have hstack : (S.map (cv ρ)) = (as'.map (cv ρ)).reverse ++ .ref (ca ρ a) :: S'.map (cv ρ) := by
    rw [hS, List.map_append, List.map_reverse, hargs, List.reverse_cons, List.append_assoc]
    rfl
  have hmr : 2 * (F0 m pc ls (S.map (cv ρ))).monitorRoom + ((S'.map (cv ρ)).map fun v => v.category).sum ≤ 8 := by
    rw [hsum]
    show 0 + zw S' ≤ 8
    omega
  have hlen2 : (as'.map (cv ρ)).length = n := by rw [List.length_map]; exact hlen
  obtain ⟨y', cc', ret', hh'⟩ := I
  obtain ⟨i1, i2, i3, i4, i5⟩ := hI
  have i2 : zCw y' cc' (zML m') ret' hh' ∈ lw_all := i2
  have i4 : Cond.initialized y'.cls ∈ lw_all := i4
  have i3 : y'.cls ≠ "java/lang/invoke/MethodHandle" ∧ y'.cls ≠ "java/lang/invoke/VarHandle" := i3
  obtain ⟨hinst, hl⟩ := hl
  have hinst : Cond.instanceMethod y' ∈ lw_all := hinst
  have hpn : (parseMethodDescriptor x.desc).map (fun d => d.parameters.length) = some n := hpn
  have hpre : PreV s H (zcn ((hk h a).1 - 100)) (ca ρ a) (zPc SR D A ρ κ hc h (vA (some a) :: as')) (as'.map (cv ρ)) := ⟨zPc_blind, ⟨cell, c1, c2, c3⟩, hpre0⟩
  rcases hl with ⟨hxy, hsel, hl⟩ | ⟨hnil, hl, hsel, owner, hsm, hde, ho1, ho2⟩ | ⟨hnil, hxy, hl, hpv, hsm⟩ | ⟨hnil, hl, owner, hsm, hsel, hde, ho1, ho2⟩
  · have hxy : x = y' := hxy
    subst hxy
    rcases hl with ⟨hl, hC2⟩ | ⟨hnil, host, hl⟩
    · cases hh' with
      | nil =>
        have i2 : Cond.code x cc' (zML m') ret' ∈ lw_all := i2
        exact vx_runV (As := as'.map (cv ρ)) (own := y.cls) (C := zcn ((hk h a).1 - 100)) (Ts := lw_all) ⟨hx, hb, hml, hown, hts⟩ hM ⟨callB_of n hts (lw_meth i2) rfl rfl rfl (hts _ i4) (hts _ hl) ⟨i3.1, i3.2, hpn⟩ hroom, hts _ hinst, hts _ hsel⟩ hpre rfl hlen2 g2.2.1 hstack hmr d hfit
      | cons r rs =>
        have i2 : Cond.codeWith x cc' (zML m') ret' (r :: rs) ∈ lw_all := i2
        have hC3 : x.cls = zcn ((hk h a).1 - 100) := by
          rcases hC2 with z | z
          · cases z
          · exact z
        have hG : GoodIn lw_all (wsV y.cls i (zcn ((hk h a).1 - 100)) x (Cond.codeWith x cc' (zML m') ret' (r :: rs) :: lw_all)) := lw_good (fun w hw => by
          unfold wsV at hw
          simp only [List.cons_append, List.nil_append, List.mem_cons] at hw
          rcases hw with rfl | rfl | rfl | rfl | rfl | hw
          · exact hl
          · exact hinst
          · exact hsel
          · rw [← hC3]; exact i4
          · exact i2
          · exact hw)
        exact vx_runVX (As := as'.map (cv ρ)) (own := y.cls) (C := zcn ((hk h a).1 - 100)) (Ts := lw_all) ⟨hx, hb, hml, hown, hts⟩ hM (vx_cwVW n hts hG rfl rfl rfl ⟨hC3, i3.1, i3.2, hpn⟩ hroom) hpre rfl hlen2 g2.2.1 hstack hmr d hfit
    · have hnil : hh' = [] := hnil
      subst hnil
      have i2 : Cond.code x cc' (zML m') ret' ∈ lw_all := i2
      exact vx_runVN (As := as'.map (cv ρ)) (own := y.cls) (host := host) (C := zcn ((hk h a).1 - 100)) (Ts := lw_all) ⟨hx, hb, hml, hown, hts⟩ hM ⟨va_cnB n hts (lw_meth i2) rfl rfl rfl (hT.1 _ hl) (hts _ i4) ⟨i3.1, i3.2, hpn⟩ hroom, hts _ hinst, hts _ hsel⟩ hpre rfl hlen2 g2.2.1 hstack hmr d hfit
  · have hnil : hh' = [] := hnil
    subst hnil
    have i2 : Cond.code y' cc' (zML m') ret' ∈ lw_all := i2
    have hsel : Cond.selects (zcn ((hk h a).1 - 100)) x y' ∈ lw_all := hsel
    rcases hde with hde | ⟨hoi, b0, m0, r0, hoc⟩
    · have hG : GoodIn lw_all (va_wsU y.cls i (zcn ((hk h a).1 - 100)) owner x y' (Cond.code y' cc' (zML m') ret' :: lw_all)) := lw_good (fun w hw => by
        unfold va_wsU at hw
        simp only [List.cons_append, List.nil_append, List.mem_cons] at hw
        rcases hw with rfl | rfl | rfl | rfl | rfl | rfl | hw
        · exact hl
        · exact hsm
        · exact hsel
        · exact hinst
        · exact i4
        · exact i2
        · exact hw)
      exact vx_runU (As := as'.map (cv ρ)) (own := y.cls) (C := zcn ((hk h a).1 - 100)) (Ts := lw_all) ⟨hx, hb, hml, hown, hts⟩ hM (va_cwA n hts hG rfl rfl rfl (hT.1 _ hde) ⟨ho1, ho2, hpn⟩ hroom) hpre rfl hlen2 g2.2.1 hstack hmr d hfit
    · have hG : GoodIn lw_all (va_wsO y.cls i (zcn ((hk h a).1 - 100)) owner x y' (Cond.code y' cc' (zML m') ret' :: lw_all)) := lw_good (fun w hw => by
        unfold va_wsO at hw
        simp only [List.cons_append, List.nil_append, List.mem_cons] at hw
        rcases hw with rfl | rfl | rfl | rfl | rfl | rfl | rfl | hw
        · exact hl
        · exact hsm
        · exact hoi
        · exact hsel
        · exact hinst
        · exact i4
        · exact i2
        · exact hw)
      exact vx_runU (As := as'.map (cv ρ)) (own := y.cls) (C := zcn ((hk h a).1 - 100)) (Ts := lw_all) ⟨hx, hb, hml, hown, hts⟩ hM (va_cwO n hts hG rfl rfl rfl hoc ⟨ho1, ho2, hpn⟩ hroom) hpre rfl hlen2 g2.2.1 hstack hmr d hfit
  · have hnil : hh' = [] := hnil
    subst hnil
    have hxy : x = y' := hxy
    subst hxy
    have i2 : Cond.code x cc' (zML m') ret' ∈ lw_all := i2
    have hG : GoodIn lw_all (Cond.code x cc' (zML m') ret' :: lw_all) := lw_meth i2
    have hsel := zsel_priv (args := args) c3 i3 (hts _ hsm) (va_Nw.use rfl (hT.1 _ hpv)) (hts _ hinst)
    have cw : va_CU R s args y.cls (zcn ((hk h a).1 - 100)) x.cls i x x cc' (zML m') ret' (Cond.code x cc' (zML m') ret' :: lw_all) ⟨zF m' lv', hn h' - hn h, hs h' - hs h, 40 * zF m' lv'⟩ (hn h' - hn h) (hs h' - hs h) n :=
      ⟨⟨rfl, rfl, hroom.1, hroom.2, pay_in hts hG, List.mem_cons_self⟩, hts _ i2, hts _ i4, i3, fun sig hsig => by
        rw [hsig] at hpn
        exact (Option.some.inj hpn).symm, hts _ hl, hts _ hsm, va_Decl.of (hts _ hinst) (hts _ i2), hsel, hts _ hinst⟩
    exact vx_runU (As := as'.map (cv ρ)) (own := y.cls) (C := zcn ((hk h a).1 - 100)) (Ts := lw_all) ⟨hx, hb, hml, hown, hts⟩ hM cw hpre rfl hlen2 g2.2.1 hstack hmr d hfit
  · have hnil : hh' = [] := hnil
    subst hnil
    have i2 : Cond.code y' cc' (zML m') ret' ∈ lw_all := i2
    have hG : GoodIn lw_all (Cond.code y' cc' (zML m') ret' :: lw_all) := lw_meth i2
    have hsm2 : (Cond.sameMethod x.cls owner x.name x.desc).before args s = true := va_Nw.use rfl (hT.1 _ hsm)
    have hsel := zsel_same (x := x) ⟨ho1, ho2⟩ hsm2 (hts _ hsel)
    have cw : va_CU R s args y.cls (zcn ((hk h a).1 - 100)) owner i x y' cc' (zML m') ret' (Cond.code y' cc' (zML m') ret' :: lw_all) ⟨zF m' lv', hn h' - hn h, hs h' - hs h, 40 * zF m' lv'⟩ (hn h' - hn h) (hs h' - hs h) n :=
      ⟨⟨rfl, rfl, hroom.1, hroom.2, pay_in hts hG, List.mem_cons_self⟩, hts _ i2, hts _ i4, ⟨ho1, ho2⟩, fun sig hsig => by
        rw [hsig] at hpn
        exact (Option.some.inj hpn).symm, va_Nw.use rfl (hT.1 _ hl), hsm2, va_Decl.abs (hT.1 _ hde), hsel, hts _ hinst⟩
    exact vx_runU (As := as'.map (cv ρ)) (own := y.cls) (C := zcn ((hk h a).1 - 100)) (Ts := lw_all) ⟨hx, hb, hml, hown, hts⟩ hM cw hpre rfl hlen2 g2.2.1 hstack hmr d hfit
theorem zr_iface {x : MethodName} {ct : Nat} {κ : Nat → ClassId} {ρ : Nat → Value} {H : Heap} {locs : List Loc} {ls : Array Slot} {as' S' : List V} {m' lv' i n a : Nat} {I : zIs} {o' : ZO} {h' : MH} (C : zCx ML SR p l R s m args meth c D A ρs hc h0 h1 k lv y cc ret hh) (hI : zHdr m' I) (d : decode cc pc = .ok (.invokeinterface i ct, 5)) (hpn : zpn x.desc n) (hxc : x.cls ≠ "java/lang/invoke/MethodHandle" ∧ x.cls ≠ "java/lang/invoke/VarHandle") (hnil : I.2.2.2 = []) (hfw : (zcn ((hk h a).1 - 100), x, I.1) ∈ zFws) (hl : Cond.methodLink y.cls i x ∈ lw_all) (hsel : Cond.selects (zcn ((hk h a).1 - 100)) x I.1 ∈ lw_all) (hinst : Cond.instanceMethod I.1 ∈ lw_all) (hM : zMet l SR D A ρ κ hc m' lv' I (vA (some a) :: as') h o' h') (hF : zF m' lv' + 1 ≤ zF k lv)
    (g1 : zSt D A ρs hc h0 s ρ κ h H locs) (g2 : zLoc ρ (zML k) L ls) (hS' : ∀ v ∈ S', vok (hn h) v ∧ v ≠ vJ) (hlen : as'.length = n) (hS : S = (vA (some a) :: as').reverse ++ S') (hzw : zw S' ≤ 8) (hgr : (hn h ≤ hn h' ∧ hn h' ≤ hn h1) ∧ (hs h ≤ hs h' ∧ hs h' ≤ hs h1)) (ha : a < hn h) (hk0 : 100 ≤ (hk h a).1) :
    zRun p l e R s m args below meth c H locs (hn h - hn h0) (hs h - hs h0) (hn h' - hn h) (hs h' - hs h) (F0 m pc ls (S.map (cv ρ))) (S'.map (cv ρ)) (zQ D A ρ hc h o' h' #[]) (zX D A ρ hc h o' h') A 5 := by
  have hroom := zr_room C hF
  have hpre0 := fun (U : State) (hU : U.heap = H) (hW : s.WarmedH U.vm) => zr_pre (as := vA (some a) :: as') C g1 hU hW
  obtain ⟨hx, hstt, hb, hml, hown, hnm, hret, hlk, htb, hts, hT, hC, h55, hA, hR, hR2⟩ := C
  obtain ⟨er, e123, cell, c1, c2, c3⟩ := zSt_obj hC h55 hT.2.2.2 g1 ha hk0
  have hargs : ((vA (some a) :: as').map (cv ρ)) = .ref (ca ρ a) :: as'.map (cv ρ) := by rw [List.map_cons]; show ρ a :: _ = _; rw [er]
  rw [hargs] at hpre0
  have hsum := zw_sum g1.2.2.2.2.2 hS'
  have hg0 := g1.2.2.2.2.1
  have hfit : hn h - hn h0 + (hn h' - hn h) ≤ R.cells ∧ hs h - hs h0 + (hs h' - hs h) ≤ R.slots := by omega
  have hstack : (S.map (cv ρ)) = (as'.map (cv ρ)).reverse ++ .ref (ca ρ a) :: S'.map (cv ρ) := by
    rw [hS, List.map_append, List.map_reverse, hargs, List.reverse_cons, List.append_assoc]
    rfl
  have hmr : 2 * (F0 m pc ls (S.map (cv ρ))).monitorRoom + ((S'.map (cv ρ)).map fun v => v.category).sum ≤ 8 := by
    rw [hsum]
    show 0 + zw S' ≤ 8
    omega
  have hlen2 : (as'.map (cv ρ)).length = n := by rw [List.length_map]; exact hlen
  obtain ⟨y', cc', ret', hh'⟩ := I
  obtain ⟨i1, i2, i3, i4, i5⟩ := hI
  have i2 : zCw y' cc' (zML m') ret' hh' ∈ lw_all := i2
  have i4 : Cond.initialized y'.cls ∈ lw_all := i4
  have i3 : y'.cls ≠ "java/lang/invoke/MethodHandle" ∧ y'.cls ≠ "java/lang/invoke/VarHandle" := i3
  have hinst : Cond.instanceMethod y' ∈ lw_all := hinst
  have hpn : (parseMethodDescriptor x.desc).map (fun d => d.parameters.length) = some n := hpn
  have hnil : hh' = [] := hnil
  subst hnil
  have i2 : Cond.code y' cc' (zML m') ret' ∈ lw_all := i2
  have hsel : Cond.selects (zcn ((hk h a).1 - 100)) x y' ∈ lw_all := hsel
  obtain ⟨N, hN⟩ := zInst hk0 e123
  obtain ⟨cC, hat⟩ := classAt_of (hts _ hN)
  have hpre : PreV s H (zcn ((hk h a).1 - 100)) (ca ρ a) (zPc SR D A ρ κ hc h (vA (some a) :: as')) (as'.map (cv ρ)) := ⟨zPc_blind, ⟨cell, c1, c2, c3⟩, hpre0⟩
  have hG : GoodIn lw_all (va_wsF y.cls i (zcn ((hk h a).1 - 100)) x y' (Cond.code y' cc' (zML m') ret' :: lw_all)) := lw_good (fun w hw => by
    unfold va_wsF at hw
    simp only [List.cons_append, List.nil_append, List.mem_cons] at hw
    rcases hw with rfl | rfl | rfl | rfl | rfl | hw
    · exact hl
    · exact hsel
    · exact hinst
    · exact i4
    · exact i2
    · exact hw)
  exact vx_runF (As := as'.map (cv ρ)) (own := y.cls) (C := zcn ((hk h a).1 - 100)) (Ts := lw_all) hat ⟨hx, hb, hml, hown, hts⟩ hM (va_cwF n hts hG rfl rfl rfl (hT.2.1 _ hfw) ⟨hxc.1, hxc.2, hpn⟩ hroom) hpre rfl hlen2 g2.2.1 hstack hmr d hfit
end
