/-! The whole machine: every run of a method of the mini machine is its contract on the real one. -/
theorem plain_grow {i : Instr} {nx pc' : Nat} {L S L' S' : List V} {h h' : MH} (q : plain i nx L S h = some (pc', L', S', h')) : hn h ≤ hn h' ∧ hs h ≤ hs h' := by
  have f0 : hn h ≤ hn h ∧ hs h ≤ hs h := ⟨Nat.le_refl _, Nat.le_refl _⟩
  cases i <;> simp only [plain] at q <;> (repeat' (split at q)) <;> first
    | (cases q; done)
    | (cases q; exact f0)
    | (cases q; exact ⟨Nat.le_succ _, Nat.le_add_right _ _⟩)
    | (cases q; exact ⟨by rw [hn_put]; exact Nat.le_refl _, by rw [hs_put]; exact Nat.le_refl _⟩)
def zGr (R : Nat → Nat → Nat → List V → List V → MH → (ZO → MH → Prop) → Prop) : Prop := ∀ k lv pc L S h (P : ZO → MH → Prop), R k lv pc L S h P → ∃ o h', P o h' ∧ hn h ≤ hn h' ∧ hs h ≤ hs h'
theorem zcall_grow {R : Nat → Nat → Nat → List V → List V → MH → (ZO → MH → Prop) → Prop} (hR : zGr R) {k lv pc nx m n : Nat} {L S : List V} {h : MH} {Q : ZO → MH → Prop} (q : zcall R k lv pc nx m n L S h Q) : ∃ o h', Q o h' ∧ hn h ≤ hn h' ∧ hs h ≤ hs h' := by
  unfold zcall at q
  split at q
  · exact q.elim
  · obtain ⟨o, h1, q1, g1, g2⟩ := hR _ _ _ _ _ _ _ q.2
    split at q1
    · obtain ⟨o2, h2, q3, g3, g4⟩ := hR _ _ _ _ _ _ _ q1
      exact ⟨o2, h2, q3, Nat.le_trans g1 g3, Nat.le_trans g2 g4⟩
    · obtain ⟨o2, h2, q3, g3, g4⟩ := hR _ _ _ _ _ _ _ q1
      exact ⟨o2, h2, q3, Nat.le_trans g1 g3, Nat.le_trans g2 g4⟩
    · split at q1
      · obtain ⟨o2, h2, q3, g3, g4⟩ := hR _ _ _ _ _ _ _ q1
        exact ⟨o2, h2, q3, Nat.le_trans g1 g3, Nat.le_trans g2 g4⟩
      · exact ⟨_, _, q1, g1, g2⟩
theorem WPn_grow : ∀ n, zGr (WPn n) := by
  intro n
  induction n with
  | zero => intro k lv pc L S h P q; exact q.elim
  | succ n ih =>
    intro k lv pc L S h P q
    unfold WPn at q
    split at q
    · unfold zstep at q
      split at q
      · split at q
        · exact ⟨_, _, q, Nat.le_refl _, Nat.le_refl _⟩
        · exact q.elim
      · split at q
        · exact ⟨_, _, q.2, Nat.le_refl _, Nat.le_refl _⟩
        · exact q.elim
      · split at q
        · exact ⟨_, _, q, Nat.le_refl _, Nat.le_refl _⟩
        · exact q.elim
      · split at q
        · exact ⟨_, _, q, Nat.le_refl _, Nat.le_refl _⟩
        · exact q.elim
      · split at q
        · obtain ⟨-, q⟩ := q
          split at q
          · exact ih _ _ _ _ _ _ _ q
          · exact ⟨_, _, q, Nat.le_refl _, Nat.le_refl _⟩
        · exact q.elim
      · exact zcall_grow ih q
      · split at q
        · exact zcall_grow ih q.2
        · exact q.elim
      · split at q
        · split at q
          · exact zcall_grow ih q
          · exact q.elim
        · exact q.elim
      · split at q
        · split at q
          · exact zcall_grow ih q
          · exact q.elim
        · exact q.elim
      · split at q
        · rename_i he
          obtain ⟨o2, h2, q3, g3, g4⟩ := ih _ _ _ _ _ _ _ q
          obtain ⟨e1, e2⟩ := plain_grow he
          exact ⟨o2, h2, q3, Nat.le_trans e1 g3, Nat.le_trans e2 g4⟩
        · exact q.elim
    · exact q.elim
theorem WPn_gr {n k lv pc : Nat} {L S : List V} {h h1 : MH} {o : ZO} (q : WPn n k lv pc L S h (fun o' h' => o' = o ∧ h' = h1)) : hn h ≤ hn h1 ∧ hs h ≤ hs h1 := by
  obtain ⟨o', h', ⟨-, rfl⟩, g⟩ := WPn_grow n _ _ _ _ _ _ _ q
  exact g
/-! the locals at a method's start -/
theorem zpad_len : ∀ (n : Nat) (l : List V), (zpad n l).length = n := by
  intro n
  induction n with
  | zero => intro l; rfl
  | succ n ih =>
    intro l
    cases l with
    | nil => show (vJ :: zpad n []).length = _; rw [List.length_cons, ih]
    | cons v l => show (v :: zpad n l).length = _; rw [List.length_cons, ih]
theorem zpad_get : ∀ (n : Nat) (l : List V) (i : Nat) (v : V), (zpad n l)[i]? = some v → v ≠ vJ → l[i]? = some v := by
  intro n
  induction n with
  | zero => intro l i v h _; simp [zpad] at h
  | succ n ih =>
    intro l i v h hv
    cases l with
    | nil =>
      exfalso
      have h : (vJ :: zpad n [])[i]? = some v := h
      cases i with
      | zero => exact hv (Option.some.inj h).symm
      | succ i =>
        have := ih [] i v h hv
        simp at this
    | cons w l =>
      have h : (w :: zpad n l)[i]? = some v := h
      cases i with
      | zero => exact h
      | succ i => exact ih l i v h hv
theorem zlay_ok {ρ : Nat → Value} {N : Nat} (hρ : ∀ a, a < N → ρ a = .null ∨ ∃ q, ρ a = .ref q) : ∀ (as : List V), (∀ v ∈ as, vok N v ∧ v ≠ vJ) → ((lg_sl (as.map (cv ρ))).length = (zlay as).length ∧ (∀ v ∈ zlay as, vok N v)) ∧ ∀ (j i : Nat) (v : V), (zlay as)[i]? = some v → v ≠ vJ → (j + i, cv ρ v) ∈ lv_args j (as.map (cv ρ)) := by
  intro as
  induction as with
  | nil => intro _; exact ⟨⟨rfl, fun v hv => by cases hv⟩, fun j i v h => by simp [zlay] at h⟩
  | cons w as ih =>
    intro hs
    obtain ⟨⟨i1, i2⟩, i3⟩ := ih (tl1 hs)
    have h1 := hd1 hs
    by_cases hw : ∃ x, w = vL x
    · obtain ⟨x, rfl⟩ := hw
      have e : zlay (vL x :: as) = vL x :: vJ :: zlay as := rfl
      have ec : (cv ρ (vL x)).category = 2 := rfl
      have es : lg_sl ((vL x :: as).map (cv ρ)) = Slot.val (cv ρ (vL x)) :: Slot.second :: lg_sl (as.map (cv ρ)) := by
        show (List.flatMap _ (cv ρ (vL x) :: as.map (cv ρ))) = _
        rw [List.flatMap_cons, if_pos ec]
        rfl
      have ea : ∀ j, lv_args j ((vL x :: as).map (cv ρ)) = (j, cv ρ (vL x)) :: lv_args (j + 2) (as.map (cv ρ)) := fun j => by
        show (j, cv ρ (vL x)) :: lv_args (if (cv ρ (vL x)).category = 2 then j + 2 else j + 1) _ = _
        rw [if_pos ec]
      refine ⟨⟨by rw [es, e, List.length_cons, List.length_cons, List.length_cons, List.length_cons, i1], fun v hv => ?_⟩, fun j i v h hv => ?_⟩
      · rw [e] at hv
        rcases List.mem_cons.mp hv with rfl | hv
        · exact h1.1
        · rcases List.mem_cons.mp hv with rfl | hv
          · trivial
          · exact i2 v hv
      · rw [e] at h
        rw [ea]
        cases i with
        | zero =>
          have h : some (vL x) = some v := h
          cases h
          exact List.mem_cons_self
        | succ i =>
          cases i with
          | zero =>
            exfalso
            have h : some vJ = some v := h
            exact hv (Option.some.inj h).symm
          | succ i =>
            have := i3 (j + 2) i v h hv
            rw [show j + (i + 1 + 1) = j + 2 + i by omega]
            exact List.mem_cons_of_mem _ this
    · have hw : ∀ x, w ≠ vL x := fun x z => hw ⟨x, z⟩
      have ec : (cv ρ w).category = 1 := cat1 hρ h1.1 hw
      have ec2 : ¬ (cv ρ w).category = 2 := by omega
      have e : zlay (w :: as) = w :: zlay as := by
        rcases w with x | x | x | x
        · rfl
        · exact absurd rfl (hw x)
        · rfl
        · rfl
      have es : lg_sl ((w :: as).map (cv ρ)) = Slot.val (cv ρ w) :: lg_sl (as.map (cv ρ)) := by
        show (List.flatMap _ (cv ρ w :: as.map (cv ρ))) = _
        rw [List.flatMap_cons, if_neg ec2]
        rfl
      have ea : ∀ j, lv_args j ((w :: as).map (cv ρ)) = (j, cv ρ w) :: lv_args (j + 1) (as.map (cv ρ)) := fun j => by
        show (j, cv ρ w) :: lv_args (if (cv ρ w).category = 2 then j + 2 else j + 1) _ = _
        rw [if_neg ec2]
      refine ⟨⟨by rw [es, e, List.length_cons, List.length_cons, i1], fun v hv => ?_⟩, fun j i v h hv => ?_⟩
      · rw [e] at hv
        rcases List.mem_cons.mp hv with rfl | hv
        · exact h1.1
        · exact i2 v hv
      · rw [e] at h
        rw [ea]
        cases i with
        | zero =>
          have h : some w = some v := h
          cases h
          exact List.mem_cons_self
        | succ i =>
          have := i3 (j + 1) i v h hv
          rw [show j + (i + 1) = j + 1 + i by omega]
          exact List.mem_cons_of_mem _ this
theorem zin_loc {ρ : Nat → Value} {N m : Nat} {as : List V} (hρ : ∀ a, a < N → ρ a = .null ∨ ∃ q, ρ a = .ref q) (hs : ∀ v ∈ as, vok N v ∧ v ≠ vJ) (hle : (zlay as).length ≤ zML m) (mi : MethodId) : ∃ ls, entryFrame mi (as.map (cv ρ)).toArray (zML m) = F0 mi 0 ls [] ∧ zLoc ρ (zML m) (zin m as) ls ∧ ∀ v ∈ zin m as, vok N v := by
  obtain ⟨⟨i1, i2⟩, i3⟩ := zlay_ok hρ as hs
  refine ⟨_, lg_entry_eq mi (as.map (cv ρ)) (zML m), ⟨zpad_len _ _, lv_has_mono (lv_entry (as.map (cv ρ)) (by rw [i1]; exact hle)) (fun q hq => ?_)⟩, fun v hv => ?_⟩
  · obtain ⟨v, h1, h2, h3⟩ := zlp_mem.mp hq
    have hv : v ≠ vJ := by
      intro z
      subst z
      cases h2
    have := i3 0 q.1 v (zpad_get _ _ _ _ h1 hv) hv
    rw [Nat.zero_add, ← h3] at this
    exact this
  · obtain ⟨i, hi⟩ := List.getElem?_of_mem hv
    by_cases hvj : v = vJ
    · rw [hvj]; trivial
    · exact i2 v (List.mem_of_getElem? (zpad_get _ _ _ _ hi hvj))
def zGood (ML : List (Nat × zIs)) (SR : List (String × Nat × String × Nat)) (m : Nat) (I : zIs) : Prop := zHok I.1.cls I.2.2.2 (zHD m) ∧ (∀ pc nx i, zcode m pc = some (nx, i) → zEv ML SR m I.1 I.2.2.1 I.2.1 pc nx i) ∧ 8 ≤ zRK m
def zAllEv (ML : List (Nat × zIs)) (SR : List (String × Nat × String × Nat)) : Prop := ∀ m I, (m, I) ∈ ML → zHdr m I ∧ zGood ML SR m I
def zGoes (ML : List (Nat × zIs)) (SR : List (String × Nat × String × Nat)) (n : Nat) : Prop := ∀ (k lv pc : Nat) (L S : List V) (h : MH) (o : ZO) (h1 : MH) (I : zIs), zGood ML SR k I → WPn n k lv pc L S h (fun o' h' => o' = o ∧ h' = h1) →
  ∀ (p : Program) (l : Launch) (e : Env) (R : Room) (s : State) (m : MethodId) (args : Array Value) (below : List Frame) (meth : Method) (c : Code) (D : va_G) (A : Nat → Prop) (ρs : Nat → Value) (hc h0 : MH), zCx ML SR p l R s m args meth c D A ρs hc h0 h1 k lv I.1 I.2.1 I.2.2.1 I.2.2.2 →
  ZGo p l e R s m args below meth c (zQf D A ρs hc h0 o h1 below args s) D A ρs hc h0 (zML k) pc L S h
theorem zof_W {l : Launch} {y : MethodName} {ws ws' : List Cond} {rm : Room} {Pc : Array Value → State → Prop} {Qc : Array Value → State → Outcome → State → Prop} {XC : String → Addr → State → State → Prop} {mc ms : Nat} {free : Addr → Prop} {cc : ByteArray} {maxL : Nat} {ret : Option FieldType}
    (hy : plainFor y = true) (hw : ws = Cond.code y cc maxL ret :: ws')
    (body : ∀ p e s m args below meth c s₁, BodyLoose p l y (headSpec ws rm) cc maxL ret e s m args below meth c s₁ → c.maxLocals = maxL → (∀ x ∈ c.exceptionTable.toList, False) → Pc args s →
      W p l e (headSpec ws rm).room s m args below meth c s.heap [] 0 0 (vx_MQ below Qc XC args s mc ms free) (entryFrame m args maxL)) : vx_Met l y ws rm Pc Qc XC mc ms free := by
  refine MetFree.of_bodySF (code := cc) (maxLocals := maxL) (ret := ret) hy ?_ ?_
  · intro args s m h hn
    obtain ⟨meth, c, h1, h2, h3, h4, h5, h6, -, -⟩ := Cond.code_spec hn (atoms_spec (ws := ws) h _ (by rw [hw]; exact List.mem_cons_self))
    exact ⟨meth, c, h1, h2, h3, h4, h5, h6⟩
  · intro p e s m args below meth c s₁ B hml hP _
    have hh0 : s₁.heap = s.heap := by rw [B.state]; rfl
    have ht : ∀ x ∈ c.exceptionTable.toList, False := by
      obtain ⟨meth9, c9, h1, h2, -, -, -, -, h7, -⟩ := Cond.code_spec B.named (atoms_spec (ws := ws) B.pre _ (by rw [hw]; exact List.mem_cons_self))
      cases Option.some.inj (h1.symm.trans B.method)
      cases Option.some.inj (h2.symm.trans (Stand.of_body B).code)
      intro x hx
      rw [Array.isEmpty_iff.mp h7] at hx
      cases hx
    obtain ⟨t, a1, o, b1, b2, b3⟩ := body p e s m args below meth c s₁ B hml ht hP s₁ hh0 (Stand.of_body B)
    exact ⟨t, o, a1, b1, b2, b3⟩
theorem zof_WH {l : Launch} {y : MethodName} {ws ws' : List Cond} {rm : Room} {Pc : Array Value → State → Prop} {Qc : Array Value → State → Outcome → State → Prop} {XC : String → Addr → State → State → Prop} {mc ms : Nat} {free : Addr → Prop} {cc : ByteArray} {maxL : Nat} {ret : Option FieldType} {hh : List (Nat × Nat × Nat × Nat)}
    (hy : plainFor y = true) (hw : ws = Cond.codeWith y cc maxL ret hh :: ws')
    (body : ∀ p e s m args below meth c s₁, BodyLoose p l y (headSpec ws rm) cc maxL ret e s m args below meth c s₁ → c.maxLocals = maxL → Pc args s →
      W p l e (headSpec ws rm).room s m args below meth c s.heap [] 0 0 (vx_MQ below Qc XC args s mc ms free) (entryFrame m args maxL)) : vx_Met l y ws rm Pc Qc XC mc ms free := by
  refine MetFree.of_bodySF (code := cc) (maxLocals := maxL) (ret := ret) hy ?_ ?_
  · intro args s m h hn
    obtain ⟨m9, meth, c, hn9, h1, h2, h3, h4, -, h5, h6, -⟩ := Cond.codeWith_spec (atoms_spec (ws := ws) h _ (by rw [hw]; exact List.mem_cons_self))
    cases hn.symm.trans hn9
    exact ⟨meth, c, h1, h2, h3, h4, h5, h6⟩
  · intro p e s m args below meth c s₁ B hml hP _
    have hh0 : s₁.heap = s.heap := by rw [B.state]; rfl
    obtain ⟨t, a1, o, b1, b2, b3⟩ := body p e s m args below meth c s₁ B hml hP s₁ hh0 (Stand.of_body B)
    exact ⟨t, o, a1, b1, b2, b3⟩
theorem zMet_of {ML : List (Nat × zIs)} {SR : List (String × Nat × String × Nat)} {n : Nat} (hAll : zAllEv ML SR) (ih : zGoes ML SR n) {m lv : Nat} {I : zIs} {as : List V} {h h' : MH} {o' : ZO} (hI : (m, I) ∈ ML) (q : WPn n m lv 0 (zin m as) [] h (fun o h1 => o = o' ∧ h1 = h')) (hle : (zlay as).length ≤ zML m) (h8 : 8 ≤ zF m lv) (hs0 : ∀ v ∈ as, vok (hn h) v ∧ v ≠ vJ) (h55 : 55 ≤ hn h) {l : Launch} (hl : l.stackTraces = false) (D : va_G) (A : Nat → Prop) (ρ : Nat → Value) (κ : Nat → ClassId) (hc : MH) : zMet l SR D A ρ κ hc m lv I as h o' h' := by
  obtain ⟨⟨i1, i2, i3, i4, i5⟩, hG⟩ := hAll m I hI
  have hgr := WPn_gr q
  have key := ih m lv 0 (zin m as) [] h o' h' I hG q
  obtain ⟨y', cc', ret', hh'⟩ := I
  have body : ∀ (p : Program) (e : Env) (s : State) (mi : MethodId) (args : Array Value) (below : List Frame) (meth : Method) (c : Code) (s₁ : State), BodyLoose p l y' (headSpec (zCw y' cc' (zML m) ret' hh' :: lw_all) ⟨zF m lv, hn h' - hn h, hs h' - hs h, 40 * zF m lv⟩) cc' (zML m) ret' e s mi args below meth c s₁ → c.maxLocals = zML m → c.exceptionTable.toList = tableOf hh' → zPc SR D A ρ κ hc h as args s →
      W p l e (headSpec (zCw y' cc' (zML m) ret' hh' :: lw_all) ⟨zF m lv, hn h' - hn h, hs h' - hs h, 40 * zF m lv⟩).room s mi args below meth c s.heap [] 0 0 (vx_MQ below (zQ D A ρ hc h o' h') (zX D A ρ hc h o' h') args s (hn h' - hn h) (hs h' - hs h) A) (entryFrame mi args (zML m)) := by
    intro p e s mi args below meth c s₁ B hml htb hP
    obtain ⟨rfl, hrel, htab, hcon, hA, hlow, hnull⟩ := hP
    obtain ⟨ls, e1, e2, e3⟩ := zin_loc hnull hs0 hle mi
    rw [e1]
    have C : zCx ML SR p l ⟨zF m lv, hn h' - hn h, hs h' - hs h, 40 * zF m lv⟩ s mi (as.map (cv ρ)).toArray meth c D A ρ hc h h' m lv y' cc' ret' hh' :=
      ⟨B.exec, hl, B.bytes, hml, findClass_of_methodNamed B.named, (name_of_methodNamed B.named B.method).1, B.returns, B.notSynchronized, htb, fun w hw => atoms_spec (ws := zCw y' cc' (zML m) ret' hh' :: lw_all) B.pre w (List.mem_cons_of_mem _ hw), htab, hcon, h55, hA, ⟨h8, Nat.le_refl _, Nat.le_refl _⟩, ⟨Nat.le_refl _, Nat.le_refl _, hgr.1, hgr.2⟩⟩
    have kk := key p l e _ s mi _ below meth c D A ρ hc h C ρ κ s.heap [] ls ⟨fun _ _ => rfl, hrel, va_S.rf, hlow, ⟨Nat.le_refl _, Nat.le_refl _⟩, hnull⟩ e2 e3 (fun v hv => by cases hv)
    rw [Nat.sub_self, Nat.sub_self] at kk
    exact kk
  cases hh' with
  | nil =>
    refine zof_W (ws' := lw_all) i1 rfl (fun p e s mi args below meth c s₁ B hml ht hP => ?_)
    exact body p e s mi args below meth c s₁ B hml (List.eq_nil_iff_forall_not_mem.mpr fun x hx => ht x hx) hP
  | cons r rs =>
    refine zof_WH (ws' := lw_all) (hh := r :: rs) i1 rfl (fun p e s mi args below meth c s₁ B hml hP => ?_)
    exact body p e s mi args below meth c s₁ B hml (vx_table (x := y') B (atoms_spec (ws := Cond.codeWith y' cc' (zML m) ret' (r :: rs) :: lw_all) B.pre _ List.mem_cons_self)) hP
theorem zF_lt {k lv m : Nat} (h : zcan k lv m) : zF m (zlv k lv m) + 1 ≤ zF k lv := by
  unfold zcan at h
  unfold zF zlv
  by_cases e : m = k
  · rw [if_pos e] at h ⊢
    rw [e]
    omega
  · rw [if_neg e] at h ⊢
    omega
theorem zVT_all : zVT_t.all (fun e => e.2.all (fun p => decide (100 ≤ p.1))) = true := by decide +kernel
theorem zVT_ge {v c m : Nat} (h : zVT v c = some m) : 100 ≤ c := by
  obtain ⟨e, he, -, hk⟩ := zlk_mem _ _ (zVT_mem h)
  exact of_decide_eq_true (List.all_eq_true.mp (List.all_eq_true.mp zVT_all e he) _ hk)
section
variable {ML : List (Nat × zIs)} {SR : List (String × Nat × String × Nat)}
/-- what a call of the mini machine asks for -/
theorem zcall_of {n k lv pc nx m n0 : Nat} {L S : List V} {h h1 : MH} {o : ZO} (q : zcall (WPn n) k lv pc nx m n0 L S h (fun o' h' => o' = o ∧ h' = h1)) : ∃ as S' o' h', zpop n0 [] S = some (as, S') ∧ (zcan k lv m ∧ zw S' ≤ 8 ∧ (zlay as).length ≤ zML m) ∧ WPn n m (zlv k lv m) 0 (zin m as) [] h (fun o1 h1 => o1 = o' ∧ h1 = h') ∧
    (match o' with
      | .inl none => WPn n k lv nx L S' h' (fun o' h' => o' = o ∧ h' = h1)
      | .inl (some v) => WPn n k lv nx L (v :: S') h' (fun o' h' => o' = o ∧ h' = h1)
      | .inr e => match zHF pc (hk h' e).1 (zHD k) with
        | some t => WPn n k lv t L [vA (some e)] h' (fun o' h' => o' = o ∧ h' = h1)
        | none => Sum.inr e = o ∧ h' = h1) := by
  unfold zcall at q
  split at q
  · exact q.elim
  · rename_i as S' hpop
    obtain ⟨o', h', q1, q2⟩ := WPn_det _ _ _ _ _ _ _ _ q.2
    exact ⟨as, S', o', h', hpop, ⟨q.1.1, q.1.2.1, Nat.le_of_ble_eq_true q.1.2.2⟩, q2, q1⟩
theorem zgo_call {n k lv pc nx m n0 n3 : Nat} {L S : List V} {h h1 : MH} {o : ZO} {I J : zIs} (hAll : zAllEv ML SR) (ih : zGoes ML SR n) (hI : zGood ML SR k I) (hJ : (m, J) ∈ ML) (hnx : nx = pc + n3) (q : zcall (WPn n) k lv pc nx m n0 L S h (fun o' h' => o' = o ∧ h' = h1))
    {p : Program} {l : Launch} {e : Env} {R : Room} {s : State} {mi : MethodId} {args : Array Value} {below : List Frame} {meth : Method} {c : Code} {D : va_G} {A : Nat → Prop} {ρs : Nat → Value} {hc h0 : MH} (C : zCx ML SR p l R s mi args meth c D A ρs hc h0 h1 k lv I.1 I.2.1 I.2.2.1 I.2.2.2)
    (run : ∀ (as S' : List V) (o' : ZO) (h' : MH), zpop n0 [] S = some (as, S') → zw S' ≤ 8 → zF m (zlv k lv m) + 1 ≤ zF k lv → ((hn h ≤ hn h' ∧ hn h' ≤ hn h1) ∧ (hs h ≤ hs h' ∧ hs h' ≤ hs h1)) → (∀ (ρ : Nat → Value) (κ : Nat → ClassId), zMet l SR D A ρ κ hc m (zlv k lv m) J as h o' h') →
      ∀ (ρ : Nat → Value) (κ : Nat → ClassId) (H : Heap) (locs : List Loc) (ls : Array Slot), zSt D A ρs hc h0 s ρ κ h H locs → zLoc ρ (zML k) L ls → (∀ v ∈ S, vok (hn h) v ∧ v ≠ vJ) → (∀ v ∈ S', vok (hn h) v ∧ v ≠ vJ) →
      zRun p l e R s mi args below meth c H locs (hn h - hn h0) (hs h - hs h0) (hn h' - hn h) (hs h' - hs h) (F0 mi pc ls (S.map (cv ρ))) (S'.map (cv ρ)) (zQ D A ρ hc h o' h' #[]) (zX D A ρ hc h o' h') A n3) :
    ZGo p l e R s mi args below meth c (zQf D A ρs hc h0 o h1 below args s) D A ρs hc h0 (zML k) pc L S h := by
  subst hnx
  obtain ⟨as, S', o', h', hpop, ⟨hcan, hzw, hle⟩, q2, q3⟩ := zcall_of q
  have g1 := WPn_gr q2
  obtain ⟨hlen, hS⟩ := zpop_0 hpop
  have hsub : ∀ v ∈ S', v ∈ S := fun v hv => by rw [hS]; exact List.mem_append_right _ hv
  have hsubA : ∀ v ∈ as, v ∈ S := fun v hv => by rw [hS]; exact List.mem_append_left _ (List.mem_reverse.mpr hv)
  have g2 : hn h' ≤ hn h1 ∧ hs h' ≤ hs h1 := by
    rcases o' with (_ | v) | e0
    · exact WPn_gr q3
    · exact WPn_gr q3
    · have q3 : (match zHF pc (hk h' e0).1 (zHD k) with
        | some t => WPn n k lv t L [vA (some e0)] h' (fun o' h' => o' = o ∧ h' = h1)
        | none => Sum.inr e0 = o ∧ h' = h1) := q3
      split at q3
      · exact WPn_gr q3
      · rw [q3.2]; exact ⟨Nat.le_refl _, Nat.le_refl _⟩
  have hH := hI.1
  have hlt := zF_lt hcan
  have hl0 : l.stackTraces = false := C.2.1
  refine ZGo_low fun hlow hok1 _ _ => ?_
  refine ZGo_hL fun hLv _ hSv => ?_
  have h8 : 8 ≤ zF m (zlv k lv m) := (Nat.le_trans (hAll m J hJ).2.2.2 (Nat.le_add_right _ _))
  have hM : ∀ (ρ : Nat → Value) (κ : Nat → ClassId), zMet l SR D A ρ κ hc m (zlv k lv m) J as h o' h' := fun ρ κ => zMet_of hAll ih hJ q2 hle h8 (fun v hv => hSv v (hsubA v hv)) hok1.1 hl0 D A ρ κ hc
  refine zr_call (o' := o') (h' := h') (S' := S') (n3 := n3) C hH ⟨g1.1, g1.2⟩ hsub (fun ρ κ H locs ls f1 f2 f3 f4 => run as S' o' h' hpop hzw hlt ⟨⟨g1.1, g2.1⟩, ⟨g1.2, g2.2⟩⟩ hM ρ κ H locs ls f1 f2 f4 (fun v hv => f4 v (hsub v hv))) (fun ho => ?_) (fun v ho => ?_) (fun e0 ho => ?_)
  · subst ho
    exact ih k lv _ L S' h' o h1 I hI q3 p l e R s mi args below meth c D A ρs hc h0 C
  · subst ho
    exact ih k lv _ L (v :: S') h' o h1 I hI q3 p l e R s mi args below meth c D A ρs hc h0 C
  · subst ho
    have q3 : (match zHF pc (hk h' e0).1 (zHD k) with
        | some t => WPn n k lv t L [vA (some e0)] h' (fun o' h' => o' = o ∧ h' = h1)
        | none => Sum.inr e0 = o ∧ h' = h1) := q3
    refine ⟨fun t ht => ?_, fun ht => ?_⟩
    · rw [ht] at q3
      exact ih k lv t L [vA (some e0)] h' o h1 I hI q3 p l e R s mi args below meth c D A ρs hc h0 C
    · rw [ht] at q3
      exact ⟨q3.1.symm, q3.2.symm⟩
theorem zsound (hAll : zAllEv ML SR) : ∀ n, zGoes ML SR n := by
  intro n
  induction n with
  | zero => intro k lv pc L S h o h1 I hI q; exact q.elim
  | succ n ih =>
    intro k lv pc L S h o h1 I hI q p l e R s m args below meth c D A ρs hc h0 C
    unfold WPn at q
    split at q
    · rename_i nx i hcode
      have ev := hI.2.1 pc nx i hcode
      have hH := hI.1
      have hgo : ∀ pc' L' S' h', WPn n k lv pc' L' S' h' (fun o' h' => o' = o ∧ h' = h1) → ZGo p l e R s m args below meth c (zQf D A ρs hc h0 o h1 below args s) D A ρs hc h0 (zML k) pc' L' S' h' :=
        fun pc' L' S' h' q => ih k lv pc' L' S' h' o h1 I hI q p l e R s m args below meth c D A ρs hc h0 C
      cases hp : zpl i with
      | true =>
        rw [zstep_pl hp] at q
        refine zp_all hp C ev ?_
        unfold zPP
        split at q
        · rename_i he
          rw [he]
          exact ⟨WPn_gr q, hgo _ _ _ _ q⟩
        · exact q.elim
      | false =>
        cases i <;> first | exact Bool.noConfusion hp | skip
        case return_ =>
          cases S with
          | nil =>
            obtain ⟨rfl, rfl⟩ := (show _ ∧ _ from q)
            exact zr_void C ev.1 ev.2
          | cons v S => exact False.elim q
        case ireturn =>
          rcases S with _ | ⟨x | x | x | x, _ | ⟨v, S⟩⟩ <;> first | exact False.elim q | skip
          obtain ⟨hx0, rfl, rfl⟩ := (show _ ∧ _ ∧ _ from q)
          exact zr_int C ev.1 ev.2 hx0
        case lreturn =>
          rcases S with _ | ⟨x | x | x | x, _ | ⟨v, S⟩⟩ <;> first | exact False.elim q | skip
          obtain ⟨rfl, rfl⟩ := (show _ ∧ _ from q)
          exact zr_long C ev.1 ev.2
        case areturn =>
          rcases S with _ | ⟨x | x | x | x, _ | ⟨v, S⟩⟩ <;> first | exact False.elim q | skip
          obtain ⟨rfl, rfl⟩ := (show _ ∧ _ from q)
          exact zr_ref C ev.1 ev.2
        case athrow =>
          rcases S with _ | ⟨x | x | (_ | e0) | x, S⟩ <;> first | exact False.elim q | skip
          obtain ⟨hkd, q⟩ := (show _ ∧ _ from q)
          refine zr_athrow C hH hkd ev (fun t ht => ?_) (fun ht => ?_)
          · rw [ht] at q
            exact hgo _ _ _ _ q
          · rw [ht] at q
            exact ⟨q.1.symm, q.2.symm⟩
        case invokestatic mm =>
          obtain ⟨hnx, j, J, hJ, d, hpn, hst, hl⟩ := ev
          refine zgo_call hAll ih hI hJ hnx q C (fun as S' o' h' hpop hzw hlt hgr hM ρ κ H locs ls f1 f2 f3 f4 => ?_)
          obtain ⟨hlen, hS⟩ := zpop_0 hpop
          exact zr_static C (hAll _ _ hJ).1 d hpn hst hl (hM ρ κ) hlt f1 f2 f4 hlen hS hzw hgr
        case invokespecial mm =>
          obtain ⟨hnx, j, J, n1, hJ, d, hpn, hna, hnil, hin, hl⟩ := ev
          have q : (match zrecv (zNA mm) S with | some a => (zNC ≤ a ∧ 100 ≤ (hk h a).1) ∧ zcall (WPn n) k lv pc nx mm (zNA mm) L S h (fun o' h' => o' = o ∧ h' = h1) | none => False) := q
          cases hr : zrecv (zNA mm) S with
          | none => rw [hr] at q; exact q.elim
          | some a =>
            rw [hr] at q
            obtain ⟨⟨ha, hk0⟩, q⟩ := q
            refine zgo_call hAll ih hI hJ hnx q C (fun as S' o' h' hpop hzw hlt hgr hM ρ κ H locs ls f1 f2 f3 f4 => ?_)
            rw [hna] at hpop hr
            obtain ⟨as', rfl, hlen⟩ := zrecv_as hpop hr
            obtain ⟨-, hS⟩ := zpop_0 hpop
            have ha2 : a < hn h := (f3 (vA (some a)) (by rw [hS]; simp)).1
            exact zr_special C (hAll _ _ hJ).1 d hpn hnil hin hl (hM ρ κ) hlt f1 f2 f4 hlen hS hzw hgr ha2 hk0
        case invokevirtual vv =>
          obtain ⟨hnx, j, x, n1, d, hpn, hvn, hall⟩ := ev
          have q : (match zrecv (zVN vv) S with | some a => (match zVT vv (hk h a).1 with | some m => zcall (WPn n) k lv pc nx m (zVN vv) L S h (fun o' h' => o' = o ∧ h' = h1) | none => False) | none => False) := q
          cases hr : zrecv (zVN vv) S with
          | none => rw [hr] at q; exact q.elim
          | some a =>
            rw [hr] at q
            have q : (match zVT vv (hk h a).1 with | some m => zcall (WPn n) k lv pc nx m (zVN vv) L S h (fun o' h' => o' = o ∧ h' = h1) | none => False) := q
            cases hv : zVT vv (hk h a).1 with
            | none => rw [hv] at q; exact q.elim
            | some mm =>
              rw [hv] at q
              obtain ⟨J, hJ, hna, hve⟩ := hall _ (zVT_mem hv)
              refine zgo_call hAll ih hI hJ hnx q C (fun as S' o' h' hpop hzw hlt hgr hM ρ κ H locs ls f1 f2 f3 f4 => ?_)
              rw [hvn] at hpop hr
              obtain ⟨as', rfl, hlen⟩ := zrecv_as hpop hr
              obtain ⟨-, hS⟩ := zpop_0 hpop
              have ha2 : a < hn h := (f3 (vA (some a)) (by rw [hS]; simp)).1
              exact zr_virtual C (hAll _ _ hJ).1 d hpn hve (hM ρ κ) hlt f1 f2 f4 hlen hS hzw hgr ha2 (zVT_ge hv)
        case invokeinterface vv ct0 =>
          obtain ⟨hnx, j, ct, x, n1, d, hpn, hvn, hxc, hall⟩ := ev
          have q : (match zrecv (zVN vv) S with | some a => (match zVT vv (hk h a).1 with | some m => zcall (WPn n) k lv pc nx m (zVN vv) L S h (fun o' h' => o' = o ∧ h' = h1) | none => False) | none => False) := q
          cases hr : zrecv (zVN vv) S with
          | none => rw [hr] at q; exact q.elim
          | some a =>
            rw [hr] at q
            have q : (match zVT vv (hk h a).1 with | some m => zcall (WPn n) k lv pc nx m (zVN vv) L S h (fun o' h' => o' = o ∧ h' = h1) | none => False) := q
            cases hv : zVT vv (hk h a).1 with
            | none => rw [hv] at q; exact q.elim
            | some mm =>
              rw [hv] at q
              obtain ⟨J, hJ, hna, hnil, hfw, hl, hsel, hin⟩ := hall _ (zVT_mem hv)
              refine zgo_call hAll ih hI hJ hnx q C (fun as S' o' h' hpop hzw hlt hgr hM ρ κ H locs ls f1 f2 f3 f4 => ?_)
              rw [hvn] at hpop hr
              obtain ⟨as', rfl, hlen⟩ := zrecv_as hpop hr
              obtain ⟨-, hS⟩ := zpop_0 hpop
              have ha2 : a < hn h := (f3 (vA (some a)) (by rw [hS]; simp)).1
              exact zr_iface C (hAll _ _ hJ).1 d hpn hxc hnil hfw hl hsel hin (hM ρ κ) hlt f1 f2 f4 hlen hS hzw hgr ha2 (zVT_ge hv)
    · exact q.elim
end
