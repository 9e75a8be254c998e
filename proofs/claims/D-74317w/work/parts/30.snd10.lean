/-! Constants: what stands from the start, and the reads of it; switches; comparisons of references; casts. -/
def zSN (q : Nat) : String × String × String := match q with
  | 0 => ("java/lang/Throwable", "UNASSIGNED_STACK", "[Ljava/lang/StackTraceElement;")
  | 1 => ("java/lang/Throwable", "SUPPRESSED_SENTINEL", "Ljava/util/List;")
  | 2 => ("java/lang/String", "COMPACT_STRINGS", "Z")
  | 3 => ("java/util/BitSet", "$assertionsDisabled", "Z")
  | 4 => ("java/util/ImmutableCollections", "$assertionsDisabled", "Z")
  | 5 => ("java/lang/StringUTF16", "$assertionsDisabled", "Z")
  | 6 => ("jdk/internal/util/Preconditions", "SIOOBE_FORMATTER", "Ljava/util/function/BiFunction;")
  | 7 => ("java/lang/Integer$IntegerCache", "high", "I")
  | _ => ("java/lang/Integer$IntegerCache", "cache", "[Ljava/lang/Integer;")
/-- what the constants' cells are on the real heap -/
def zCon (SR : List (String × Nat × String × Nat)) (A : Nat → Prop) (ρ : Nat → Value) (hc : MH) (s : State) : Prop :=
  (∀ a, 3 ≤ a → a < 55 → ρ a = .ref (ca ρ a) ∧ ¬ A (ca ρ a)) ∧
  (∀ a, a < 55 → 100 ≤ (hk hc a).1 → (3 ≤ a ∧ ((hk hc a).1 = 117 ∨ (hk hc a).1 = 118)) ∧ va_O (zcn ((hk hc a).1 - 100)) (ca ρ a) A s s.heap ∧ ∀ f, f ∈ zOF (hk hc a).1 → f ≠ 101 → f ≠ 102 → (vok 55 (hm hc a f) ∧ hm hc a f ≠ vJ) ∧ va_OF (zFN f).1 (zFN f).2.1 (zFN f).2.2.1 (cv ρ (hm hc a f)) (ca ρ a) A s s.heap) ∧
  (∀ a, a < 55 → 1 ≤ (hk hc a).1 → (hk hc a).1 ≤ 7 → (3 ≤ a ∧ (hk hc a).1 ≤ 2 ∧ (hk hc a).2 ≤ 1000000) ∧ va_T (zaty (hk hc a).1) (ca ρ a) (hk hc a).2 (fun j => cv ρ (hm hc a j)) A s s.heap ∧ ∀ j, j < (hk hc a).2 → zelok (hk hc a).1 (hm hc a j) ∧ vok 55 (hm hc a j)) ∧
  (∀ a, a < 55 → (hk hc a).1 = 8 → (3 ≤ a ∧ (hk hc a).2 = 256) ∧ ∃ f, va_T (.object "java/lang/Integer") (ca ρ a) 256 f A s s.heap ∧ ∀ j, 128 ≤ j → j < 144 → f j = cv ρ (hm hc a j) ∧ ∃ b, hm hc a j = vA (some b) ∧ b < 55) ∧
  (∀ q, q < 9 → va_Z (zSN q).1 (zSN q).2.1 (zSN q).2.2 (cv ρ (zST q)) A s s.heap) ∧
  (∀ e, e ∈ SR → (3 ≤ e.2.2.2 ∧ e.2.2.2 < 55) ∧ vk_R e.1 e.2.1 e.2.2.1 (ca ρ e.2.2.2) s) ∧
  (vx_Zq Bundle.tN "UNASSIGNED_STACK" Bundle.steD A s s.heap ∧ vx_Zq Bundle.tN "SUPPRESSED_SENTINEL" Bundle.listD A s s.heap)
theorem cv_agree {ρ ρ' : Nat → Value} (h : ∀ a, a < 55 → ρ' a = ρ a) {v : V} (q : vok 55 v) : cv ρ' v = cv ρ v := cv_ext h q
theorem ca_agree {ρ ρ' : Nat → Value} {a : Nat} (h : ρ' a = ρ a) : ca ρ' a = ca ρ a := by unfold ca; rw [h]
theorem zST_ok {q : Nat} (h : q < 9) : vok 55 (zST q) ∧ zST q ≠ vJ := by
  have h1 : zST 0 = vA (some 0) := rfl
  have h2 : zST 1 = vA (some 1) := rfl
  have h3 : zST 2 = vI 1 := rfl
  have h4 : zST 3 = vI 1 := rfl
  have h5 : zST 4 = vI 1 := rfl
  have h6 : zST 5 = vI 1 := rfl
  have h7 : zST 6 = vA (some 2) := rfl
  have h8 : zST 7 = vI 127 := rfl
  have h9 : zST 8 = vA (some 3) := rfl
  rcases (show q = 0 ∨ q = 1 ∨ q = 2 ∨ q = 3 ∨ q = 4 ∨ q = 5 ∨ q = 6 ∨ q = 7 ∨ q = 8 by omega) with z | z | z | z | z | z | z | z | z <;> subst z
  · rw [h1]; exact vok_a (fun a e => by cases e; omega)
  · rw [h2]; exact vok_a (fun a e => by cases e; omega)
  · rw [h3]; exact vok_i (by omega)
  · rw [h4]; exact vok_i (by omega)
  · rw [h5]; exact vok_i (by omega)
  · rw [h6]; exact vok_i (by omega)
  · rw [h7]; exact vok_a (fun a e => by cases e; omega)
  · rw [h8]; exact vok_i (by omega)
  · rw [h9]; exact vok_a (fun a e => by cases e; omega)
section
variable {SR : List (String × Nat × String × Nat)} {p : Program} {l : Launch} {e : Env} {R : Room} {s : State} {m : MethodId} {args : Array Value} {below : List Frame} {meth : Method} {c : Code} {Qf : State → Prop} {D : va_G} {A : Nat → Prop} {ρs : Nat → Value} {hc h0 : MH} {nL pc nx : Nat} {L S : List V} {h : MH} {cc : ByteArray} {x y : Int} {r q : Option Nat} {a b : Nat}
theorem zSt_lo {κ : Nat → ClassId} {ρ : Nat → Value} {H : Heap} {locs : List Loc} (h55 : 55 ≤ hn h0) (g : zSt D A ρs hc h0 s ρ κ h H locs) : ∀ a, a < 55 → ρ a = ρs a := fun a ha => g.1 a (by omega)
theorem zSt_cr {κ : Nat → ClassId} {ρ : Nat → Value} {H : Heap} {locs : List Loc} (hC : zCon SR A ρs hc s) (h55 : 55 ≤ hn h0) (g : zSt D A ρs hc h0 s ρ κ h H locs) (h3 : 3 ≤ a) (hl : a < 55) : ρ a = .ref (ca ρs a) := by
  rw [zSt_lo h55 g a hl]; exact (hC.1 a h3 hl).1
theorem zs_gets (hx : p.tables.exec = Jvm.exec) (hb : c.code = cc) {own : String} {i q0 : Nat} (hown : s.vm.findClass own = some m.cls) (hC : zCon SR A ρs hc s) (h55 : 55 ≤ hn h0) (hq : q0 < 9) (hlink : (Cond.fieldLink own i (zSN q0).1 (zSN q0).2.1 (zSN q0).2.2).before args s = true) (d : decode cc pc = .ok (.getstatic i, 3))
    (k : ZGo p l e R s m args below meth c Qf D A ρs hc h0 nL (pc + 3) L (zST q0 :: S) h) : ZGo p l e R s m args below meth c Qf D A ρs hc h0 nL pc L S h := by
  intro ρ κ H locs ls g1 g2 g3 g4
  have ho := zST_ok hq
  have hn55 : 55 ≤ hn h := g1.2.1.2.2.1.1
  have kk := k ρ κ H locs ls g1 g2 g3 (all1 ⟨vok_mono hn55 ho.1, ho.2⟩ g4)
  have kk : W p l e R s m args below meth c H locs _ _ Qf (F0 m (pc + 3) ls (cv ρ (zST q0) :: S.map (cv ρ))) := kk
  rw [cv_agree (zSt_lo h55 g1) ho.1] at kk
  exact va_gets hx hb (hC.2.2.2.2.1 q0 hq) g1.2.2.1 hown hlink (fun x h => h) d kk
theorem W_ldcwS (hx : p.tables.exec = Jvm.exec) (hb : c.code = cc) {own tx : String} {index q : Nat} {H : Heap} {locs : List Loc} {cells slots : Nat} {ls : Array Slot} {rest : List Value} (hown : s.vm.findClass own = some m.cls) (hZ : vk_R own index tx q s) (hdg : decode cc pc = .ok (.ldc_w index, 3))
    (k : W p l e R s m args below meth c H locs cells slots Qf (F0 m (pc + 3) ls (.ref q :: rest))) : W p l e R s m args below meth c H locs cells slots Qf (F0 m pc ls rest) := by
  intro T hT X
  obtain ⟨t, a1, b1⟩ := k T hT X
  obtain ⟨k0, cf, i, a', hk, hcf, hcp, -, hr, hev'⟩ := Cond.stringRef_spec hown hZ.1
  cases hZ.2.symm.trans hev'
  obtain ⟨k', hk', he⟩ := X.warmed.alike.2.2 _ _ hk
  have hr' : k'.resolved[index]? = some (some (.string q)) := by
    rcases X.warmed.entry hk hk' index with h | ⟨h, -⟩
    · rw [h]; exact hr
    · rw [hr] at h; cases h
  refine ⟨t, ?_, b1⟩
  jvm_step X.here [hx, hb, hdg, ldc_w.wp_string (e := e) (s := T) (f := F0 m pc ls rest) X.here.top hk' (by rw [he]; exact hcf) hcp hr']
  exact a1
theorem zs_ldcS (hx : p.tables.exec = Jvm.exec) (hb : c.code = cc) {own tx : String} {i : Nat} (hown : s.vm.findClass own = some m.cls) (hC : zCon SR A ρs hc s) (h55 : 55 ≤ hn h0) (he : (own, i, tx, a) ∈ SR) {ln : Nat} (d : decode cc pc = .ok (.ldc i, 2) ∧ ln = 2 ∨ decode cc pc = .ok (.ldc_w i, 3) ∧ ln = 3)
    (k : ZGo p l e R s m args below meth c Qf D A ρs hc h0 nL (pc + ln) L (vA (some a) :: S) h) : ZGo p l e R s m args below meth c Qf D A ρs hc h0 nL pc L S h := by
  intro ρ κ H locs ls g1 g2 g3 g4
  have hn55 : 55 ≤ hn h := g1.2.1.2.2.1.1
  obtain ⟨⟨h3, hl⟩, hR⟩ := hC.2.2.2.2.2.1 _ he
  have h3 : 3 ≤ a := h3
  have hl : a < 55 := hl
  have hR : vk_R own i tx (ca ρs a) s := hR
  have kk := k ρ κ H locs ls g1 g2 g3 (all1 (vok_a (fun b z => by cases z; omega)) g4)
  have kk : W p l e R s m args below meth c H locs _ _ Qf (F0 m (pc + ln) ls (ρ a :: S.map (cv ρ))) := kk
  rw [zSt_cr hC h55 g1 h3 hl] at kk
  rcases d with ⟨d, rfl⟩ | ⟨d, rfl⟩
  · exact va_ldcS hx hb hown hR d kk
  · exact W_ldcwS hx hb hown hR d kk
/-- reads of constants -/
theorem zs_getfC (hx : p.tables.exec = Jvm.exec) (hb : c.code = cc) {own ref : String} {i f : Nat} (hown : s.vm.findClass own = some m.cls) (hC : zCon SR A ρs hc s) (h55 : 55 ≤ hn h0) (hkc : hk h a = hk hc a ∧ hm h a = hm hc a) (hf1 : f ≠ 101) (hf2 : f ≠ 102) (hlink : (Cond.fieldLink own i ref (zFN f).2.1 (zFN f).2.2.1).before args s = true) (hsame : ∀ x, s.fieldFound? (zFN f).1 (zFN f).2.1 (zFN f).2.2.1 = some x → s.fieldFound? ref (zFN f).2.1 (zFN f).2.2.1 = some x) (d : decode cc pc = .ok (.getfield i, 3)) (hl : a < 55) (hh : zhas f (hk h a) = true)
    (k : ZGo p l e R s m args below meth c Qf D A ρs hc h0 nL (pc + 3) L (hm h a f :: S) h) : ZGo p l e R s m args below meth c Qf D A ρs hc h0 nL pc L (vA (some a) :: S) h := by
  intro ρ κ H locs ls g1 g2 g3 g4
  have hn55 : 55 ≤ hn h := g1.2.1.2.2.1.1
  have hge := zhas_ge hh
  rw [hkc.1] at hge hh
  obtain ⟨⟨h3, -⟩, -, hF⟩ := hC.2.1 a hl hge.1
  obtain ⟨ho, hOF⟩ := hF f (zhas_mem hh) hf1 hf2
  rw [hkc.2] at k
  have kk := k ρ κ H locs ls g1 g2 g3 (all1 ⟨vok_mono hn55 ho.1, ho.2⟩ (tl1 g4))
  have kk : W p l e R s m args below meth c H locs _ _ Qf (F0 m (pc + 3) ls (cv ρ (hm hc a f) :: S.map (cv ρ))) := kk
  rw [cv_agree (zSt_lo h55 g1) ho.1] at kk
  show W p l e R s m args below meth c H locs _ _ Qf (F0 m pc ls (ρ a :: S.map (cv ρ)))
  rw [zSt_cr hC h55 g1 h3 hl]
  exact vk_getf hx hb hOF g1.2.2.1 hown hlink hsame d kk
theorem zs_alenC (hx : p.tables.exec = Jvm.exec) (hb : c.code = cc) (hC : zCon SR A ρs hc s) (h55 : 55 ≤ hn h0) (hkc : hk h a = hk hc a ∧ hm h a = hm hc a) (d : decode cc pc = .ok (.arraylength, 1)) (hl : a < 55) (hk1 : 1 ≤ (hk h a).1 ∧ (hk h a).1 ≤ 7)
    (k : ZGo p l e R s m args below meth c Qf D A ρs hc h0 nL (pc + 1) L (vI ((hk h a).2 : Int) :: S) h) : ZGo p l e R s m args below meth c Qf D A ρs hc h0 nL pc L (vA (some a) :: S) h := by
  intro ρ κ H locs ls g1 g2 g3 g4
  rw [hkc.1] at hk1 k
  obtain ⟨⟨h3, -, hlen⟩, hT, -⟩ := hC.2.2.1 a hl hk1.1 hk1.2
  have kk := k ρ κ H locs ls g1 g2 g3 (all1 (vok_i (by omega)) (tl1 g4))
  show W p l e R s m args below meth c H locs _ _ Qf (F0 m pc ls (ρ a :: S.map (cv ρ)))
  rw [zSt_cr hC h55 g1 h3 hl]
  exact va_tlen hx hb hT g1.2.2.1 (v := Int32.ofInt ((hk hc a).2 : Int)) (Int32.ofInt_eq_ofNat).symm d kk
theorem zs_xaloadC (hx : p.tables.exec = Jvm.exec) (hb : c.code = cc) (hC : zCon SR A ρs hc s) (h55 : 55 ≤ hn h0) (hkc : hk h a = hk hc a ∧ hm h a = hm hc a) (d : (decode cc pc = .ok (.iaload, 1) ∧ (hk h a).1 = 1) ∨ (decode cc pc = .ok (.baload, 1) ∧ (hk h a).1 = 2)) (hl : a < 55) (hx0 : 0 ≤ x) (hx1 : x < ((hk h a).2 : Int))
    (k : ZGo p l e R s m args below meth c Qf D A ρs hc h0 nL (pc + 1) L (hm h a x.toNat :: S) h) : ZGo p l e R s m args below meth c Qf D A ρs hc h0 nL pc L (vI x :: vA (some a) :: S) h := by
  intro ρ κ H locs ls g1 g2 g3 g4
  have hn55 : 55 ≤ hn h := g1.2.1.2.2.1.1
  rw [hkc.1] at hx1 d
  rw [hkc.2] at k
  have hk1 : 1 ≤ (hk hc a).1 ∧ (hk hc a).1 ≤ 2 := by rcases d with ⟨-, z⟩ | ⟨-, z⟩ <;> omega
  obtain ⟨⟨h3, -, hlen⟩, hT, hel⟩ := hC.2.2.1 a hl hk1.1 (by omega)
  obtain ⟨i1, i2⟩ := zix hx0 hx1 hlen
  obtain ⟨e1, e2⟩ := hel x.toNat (by omega)
  have hne : hm hc a x.toNat ≠ vJ := zel_ne (by omega) e1
  have kk := k ρ κ H locs ls g1 g2 g3 (all1 ⟨vok_mono hn55 e2, hne⟩ (tl1 (tl1 g4)))
  have kk : W p l e R s m args below meth c H locs _ _ Qf (F0 m (pc + 1) ls (cv ρ (hm hc a x.toNat) :: S.map (cv ρ))) := kk
  rw [cv_agree (zSt_lo h55 g1) e2] at kk
  show W p l e R s m args below meth c H locs _ _ Qf (F0 m pc ls (.int (Int32.ofInt x) :: ρ a :: S.map (cv ρ)))
  rw [zSt_cr hC h55 g1 h3 hl]
  rcases d with ⟨d, hz⟩ | ⟨d, hz⟩
  · rw [hz] at hT
    exact va_ti hx hb hT g1.2.2.1 i1 (by rw [i2]) d kk
  · rw [hz] at hT
    exact va_tb hx hb hT g1.2.2.1 i1 (by rw [i2]) d kk
theorem zs_aaloadC (hx : p.tables.exec = Jvm.exec) (hb : c.code = cc) (hC : zCon SR A ρs hc s) (h55 : 55 ≤ hn h0) (hkc : hk h a = hk hc a ∧ hm h a = hm hc a) (d : decode cc pc = .ok (.aaload, 1)) (hl : a < 55) (hk8 : (hk h a).1 = 8) (hx0 : 128 ≤ x) (hx1 : x < 144)
    (k : ZGo p l e R s m args below meth c Qf D A ρs hc h0 nL (pc + 1) L (hm h a x.toNat :: S) h) : ZGo p l e R s m args below meth c Qf D A ρs hc h0 nL pc L (vI x :: vA (some a) :: S) h := by
  intro ρ κ H locs ls g1 g2 g3 g4
  have hn55 : 55 ≤ hn h := g1.2.1.2.2.1.1
  rw [hkc.1] at hk8
  rw [hkc.2] at k
  obtain ⟨⟨h3, -⟩, f, hT, hf⟩ := hC.2.2.2.1 a hl hk8
  obtain ⟨i1, i2⟩ := zix (n := 256) (x := x) (by omega) (by omega) (by omega)
  obtain ⟨e1, b, e2, e3⟩ := hf x.toNat (by omega) (by omega)
  have hv : vok 55 (hm hc a x.toNat) := by rw [e2]; exact e3
  have hne : hm hc a x.toNat ≠ vJ := by rw [e2]; intro z; cases z
  have kk := k ρ κ H locs ls g1 g2 g3 (all1 ⟨vok_mono hn55 hv, hne⟩ (tl1 (tl1 g4)))
  have kk : W p l e R s m args below meth c H locs _ _ Qf (F0 m (pc + 1) ls (cv ρ (hm hc a x.toNat) :: S.map (cv ρ))) := kk
  rw [cv_agree (zSt_lo h55 g1) hv] at kk
  show W p l e R s m args below meth c H locs _ _ Qf (F0 m pc ls (.int (Int32.ofInt x) :: ρ a :: S.map (cv ρ)))
  rw [zSt_cr hC h55 g1 h3 hl]
  exact vb_tq hx hb hT g1.2.2.1 i1 (by rw [i2, e1]) d kk
/-- switches -/
theorem zs_table (hx : p.tables.exec = Jvm.exec) (hb : c.code = cc) {dflt lo hi dm : Int} {offs : Array Int} {om : List Int} {len : Nat} (d : decode cc pc = .ok (.tableswitch dflt lo hi offs, len)) (hd : (pc : Int) + dflt = dm ∧ 0 ≤ dm) (ho : offs.toList.map (fun o => (pc : Int) + o) = om) (hp : ∀ o ∈ om, 0 ≤ o) (hlen : hi = lo + offs.size - 1)
    (k : ZGo p l e R s m args below meth c Qf D A ρs hc h0 nL (if hi < x then dm.toNat else zsw x lo dm om) L S h) : ZGo p l e R s m args below meth c Qf D A ρs hc h0 nL pc L (vI x :: S) h := by
  intro ρ κ H locs ls g1 g2 g3 g4
  have hx1 : -2147483648 ≤ x ∧ x ≤ 2147483647 := (hd1 g4).1
  have kk := k ρ κ H locs ls g1 g2 g3 (tl1 g4)
  show W p l e R s m args below meth c H locs _ _ Qf (F0 m pc ls (.int (Int32.ofInt x) :: S.map (cv ρ)))
  by_cases c1 : hi < x
  · rw [if_pos c1] at kk
    exact lv_tableOut hx hb d (Or.inr (by rw [o32 hx1]; exact c1)) (by rw [hd.1]; omega) kk
  · rw [if_neg c1] at kk
    unfold zsw at kk
    by_cases c2 : x < lo
    · rw [if_pos c2] at kk
      exact lv_tableOut hx hb d (Or.inl (by rw [o32 hx1]; exact c2)) (by rw [hd.1]; omega) kk
    · rw [if_neg c2] at kk
      have hj : (x - lo).toNat < offs.size := by omega
      have e1 : offs[(x - lo).toNat]? = some offs[(x - lo).toNat] := Array.getElem?_eq_getElem hj
      have e2 : om[(x - lo).toNat]? = some ((pc : Int) + offs[(x - lo).toNat]) := by
        rw [← ho, List.getElem?_map, Array.getElem?_toList, e1]; rfl
      rw [e2] at kk
      have e3 := hp _ (List.mem_of_getElem? e2)
      exact lv_tableIn hx hb d (by rw [o32 hx1]; exact c2) (by rw [o32 hx1]; exact c1) (by rw [o32 hx1]; exact e1) (by show _ = (((pc : Int) + offs[(x - lo).toNat]).toNat : Int); omega) kk
theorem zs_lookup (hx : p.tables.exec = Jvm.exec) (hb : c.code = cc) {dflt dm : Int} {ps : Array (Int × Int)} {pm : List (Int × Int)} {len : Nat} (d : decode cc pc = .ok (.lookupswitch dflt ps, len)) (hsort : (ps.toList.zip (ps.toList.drop 1)).all (fun (a, next) => a.1 < next.1) = true) (hd : (pc : Int) + dflt = dm ∧ 0 ≤ dm) (ho : ps.toList.map (fun o => (o.1, (pc : Int) + o.2)) = pm) (hp : ∀ o ∈ pm, 0 ≤ o.2)
    (k : ZGo p l e R s m args below meth c Qf D A ρs hc h0 nL (zlsw x dm pm) L S h) : ZGo p l e R s m args below meth c Qf D A ρs hc h0 nL pc L (vI x :: S) h := by
  intro ρ κ H locs ls g1 g2 g3 g4
  have hx1 : -2147483648 ≤ x ∧ x ≤ 2147483647 := (hd1 g4).1
  have kk := k ρ κ H locs ls g1 g2 g3 (tl1 g4)
  show W p l e R s m args below meth c H locs _ _ Qf (F0 m pc ls (.int (Int32.ofInt x) :: S.map (cv ρ)))
  refine lv_lookup hx hb d hsort rfl ?_ kk
  rw [o32 hx1]
  subst ho
  clear hsort d kk k
  revert hp
  generalize ps.toList = l
  induction l with
  | nil => intro _; show (pc : Int) + dflt = (dm.toNat : Int); omega
  | cons q l ih =>
    intro hp
    by_cases hq : x = q.1
    · have e : zlsw x dm ((q :: l).map (fun o => (o.1, (pc : Int) + o.2))) = ((pc : Int) + q.2).toNat := by
        show (if x = q.1 then _ else _) = _
        rw [if_pos hq]
      rw [e]
      have := hp (q.1, (pc : Int) + q.2) List.mem_cons_self
      have e2 : Op.lookupswitch.offset (q :: l) dflt x = q.2 := by
        simp [Op.lookupswitch.offset, hq]
      rw [e2]
      have : 0 ≤ (pc : Int) + q.2 := this
      omega
    · have e : zlsw x dm ((q :: l).map (fun o => (o.1, (pc : Int) + o.2))) = zlsw x dm (l.map (fun o => (o.1, (pc : Int) + o.2))) := by
        show (if x = q.1 then _ else _) = _
        rw [if_neg hq]
      have e2 : Op.lookupswitch.offset (q :: l) dflt x = Op.lookupswitch.offset l dflt x := by
        have : ¬ q.1 = x := fun z => hq z.symm
        simp [Op.lookupswitch.offset, this]
      rw [e, e2]
      exact ih (fun o h => hp o (List.mem_cons_of_mem _ h))
end
