/-! One lemma an opcode: a run at it is a run behind it. -/
theorem vI_inj (x y : Int) : (vI x = vI y) = (x = y) := propext ⟨fun h => Sum.inl.inj h, fun h => by rw [h]⟩
theorem vL_inj (x y : Int) : (vL x = vL y) = (x = y) := propext ⟨fun h => Sum.inl.inj (Sum.inr.inj h), fun h => by rw [h]⟩
theorem vA_inj (x y : Option Nat) : (vA x = vA y) = (x = y) := propext ⟨fun h => Sum.inl.inj (Sum.inr.inj (Sum.inr.inj h)), fun h => by rw [h]⟩
/-- a branch -/
def zif (c : Prop) (A B : Prop) : Prop := (c → A) ∧ (¬ c → B)
theorem zif_t {c A B : Prop} (h : c) : zif c A B = A := propext ⟨fun q => q.1 h, fun q => ⟨fun _ => q, fun n => absurd h n⟩⟩
theorem zif_f {c A B : Prop} (h : ¬ c) : zif c A B = B := propext ⟨fun q => q.2 h, fun q => ⟨fun n => absurd n h, fun _ => q⟩⟩
theorem zif_true (A B : Prop) : zif True A B = A := zif_t trivial
theorem zif_false (A B : Prop) : zif False A B = B := zif_f id
section
variable {k lv pc nx : Nat} {L S : List V} {h : MH} {Q : ZO → MH → Prop} {x y : Int} {r q : Option Nat} {a b : Nat}
theorem wp_iload {n : Nat} (hc : zcode k pc = some (nx, .iload n)) (hl : L[n]? = some (vI x)) : WP k lv pc L S h Q ↔ WP k lv nx L (vI x :: S) h Q := wp_plain hc rfl (by show (match L[n]? with | some (.inl x) => some (nx, L, vI x :: S, h) | _ => none) = _; rw [hl]; rfl)
theorem wp_aload {n : Nat} (hc : zcode k pc = some (nx, .aload n)) (hl : L[n]? = some (vA r)) : WP k lv pc L S h Q ↔ WP k lv nx L (vA r :: S) h Q := wp_plain hc rfl (by show (match L[n]? with | some (.inr (.inr (.inl r))) => some (nx, L, vA r :: S, h) | _ => none) = _; rw [hl]; rfl)
theorem wp_lload {n : Nat} (hc : zcode k pc = some (nx, .lload n)) (hl : L[n]? = some (vL x)) (hl2 : L[n + 1]? = some vJ) : WP k lv pc L S h Q ↔ WP k lv nx L (vL x :: S) h Q := wp_plain hc rfl (by show (match L[n]?, L[n + 1]? with | some (.inr (.inl x)), some (.inr (.inr (.inr _))) => some (nx, L, vL x :: S, h) | _, _ => none) = _; rw [hl, hl2]; rfl)
theorem wp_istore {n : Nat} {L' : List V} (hc : zcode k pc = some (nx, .istore n)) (hn : Nat.blt n L.length = true) (hl : L.set n (vI x) = L') : WP k lv pc L (vI x :: S) h Q ↔ WP k lv nx L' S h Q := wp_plain hc rfl (by subst hl; exact if_pos (Nat.le_of_ble_eq_true hn))
theorem wp_astore {n : Nat} {L' : List V} (hc : zcode k pc = some (nx, .astore n)) (hn : Nat.blt n L.length = true) (hl : L.set n (vA r) = L') : WP k lv pc L (vA r :: S) h Q ↔ WP k lv nx L' S h Q := wp_plain hc rfl (by subst hl; exact if_pos (Nat.le_of_ble_eq_true hn))
theorem wp_lstore {n : Nat} {L' : List V} (hc : zcode k pc = some (nx, .lstore n)) (hn : Nat.blt (n + 1) L.length = true) (hl : (L.set n (vL x)).set (n + 1) vJ = L') : WP k lv pc L (vL x :: S) h Q ↔ WP k lv nx L' S h Q := wp_plain hc rfl (by subst hl; exact if_pos (Nat.le_of_ble_eq_true hn))
theorem wp_iinc {n : Nat} {c : Int} {L' : List V} (hc : zcode k pc = some (nx, .iinc n c)) (hl : L[n]? = some (vI x)) (hl' : L.set n (vI (wr (x + c))) = L') : WP k lv pc L S h Q ↔ WP k lv nx L' S h Q := wp_plain hc rfl (by subst hl'; show (match L[n]? with | some (.inl x) => some (nx, L.set n (vI (wr (x + c))), S, h) | _ => none) = _; rw [hl]; rfl)
theorem wp_pl {i : Instr} {pc' : Nat} {L' S' : List V} {h' : MH} (hc : zcode k pc = some (nx, i)) (hp : zpl i = true) (he : plain i nx L S h = some (pc', L', S', h')) : WP k lv pc L S h Q ↔ WP k lv pc' L' S' h' Q := wp_plain hc hp he
theorem wp_br {i : Instr} {pc' : Nat} {c : Prop} [Decidable c] (hc : zcode k pc = some (nx, i)) (hp : zpl i = true) {S' : List V} (he : plain i nx L S h = if c then some (pc', L, S', h) else some (nx, L, S', h)) : WP k lv pc L S h Q ↔ zif c (WP k lv pc' L S' h Q) (WP k lv nx L S' h Q) := by
  by_cases hcc : c
  · rw [zif_t hcc]; exact wp_plain hc hp (by rw [he, if_pos hcc])
  · rw [zif_f hcc]; exact wp_plain hc hp (by rw [he, if_neg hcc])
theorem wp_brc {i : Instr} {pc' : Nat} {c : Prop} {d : Bool} (hd : d = true ↔ c) (hc : zcode k pc = some (nx, i)) (hp : zpl i = true) {S' : List V} (he : plain i nx L S h = if d = true then some (pc', L, S', h) else some (nx, L, S', h)) : WP k lv pc L S h Q ↔ zif c (WP k lv pc' L S' h Q) (WP k lv nx L S' h Q) := by
  by_cases hcc : d = true
  · rw [zif_t (hd.mp hcc)]; exact wp_plain hc hp (by rw [he, if_pos hcc])
  · rw [zif_f (fun z => hcc (hd.mpr z))]; exact wp_plain hc hp (by rw [he, if_neg hcc])
/-- a side condition, then a plain step -/
theorem wp_if {i : Instr} {pc' : Nat} {L' S' : List V} {h' : MH} {c : Prop} [Decidable c] (hc : zcode k pc = some (nx, i)) (hp : zpl i = true) (he : plain i nx L S h = if c then some (pc', L', S', h') else none) : WP k lv pc L S h Q ↔ (c ∧ WP k lv pc' L' S' h' Q) := by
  by_cases hcc : c
  · rw [wp_plain hc hp (by rw [he, if_pos hcc])]; exact ⟨fun z => ⟨hcc, z⟩, fun z => z.2⟩
  · rw [wp_stuck hc hp (by rw [he, if_neg hcc])]; exact ⟨fun z => z.elim, fun z => hcc z.1⟩
theorem wp_if' {i : Instr} {pc' : Nat} {L' S' : List V} {h' : MH} {c d : Prop} [Decidable c] (hcd : c ↔ d) (hc : zcode k pc = some (nx, i)) (hp : zpl i = true) (he : plain i nx L S h = if c then some (pc', L', S', h') else none) : WP k lv pc L S h Q ↔ (d ∧ WP k lv pc' L' S' h' Q) := by rw [← hcd]; exact wp_if hc hp he
theorem wp_ifx {i : Instr} {pc' : Nat} {L' S' : List V} {h' : MH} {c : Prop} [Decidable c] (hc : zcode k pc = some (nx, i)) (hp : zpl i = true) (he : plain i nx L S h = if c then none else some (pc', L', S', h')) : WP k lv pc L S h Q ↔ (¬ c ∧ WP k lv pc' L' S' h' Q) := by
  by_cases hcc : c
  · rw [wp_stuck hc hp (by rw [he, if_pos hcc])]; exact ⟨fun z => z.elim, fun z => z.1 hcc⟩
  · rw [wp_plain hc hp (by rw [he, if_neg hcc])]; exact ⟨fun z => ⟨hcc, z⟩, fun z => z.2⟩
theorem wp_acmp {eq : ClassFile.ACond} {t : Int} (hc : zcode k pc = some (nx, .if_acmp eq t)) : WP k lv pc L (vA q :: vA r :: S) h Q ↔ (zac r q = true ∧ zif (zaq eq r q = true) (WP k lv t.toNat L S h Q) (WP k lv nx L S h Q)) := by
  have he : plain (.if_acmp eq t) nx L (vA q :: vA r :: S) h = if zac r q = true then (if zaq eq r q = true then some (t.toNat, L, S, h) else some (nx, L, S, h)) else none := rfl
  by_cases hcc : zac r q = true
  · rw [if_pos hcc] at he
    rw [wp_br hc rfl he]
    exact ⟨fun z => ⟨hcc, z⟩, fun z => z.2⟩
  · rw [if_neg hcc] at he
    rw [wp_stuck hc rfl he]
    exact ⟨fun z => z.elim, fun z => hcc z.1⟩
theorem zac_n (b : Nat) : (zac none (some b) = true) = (3 ≤ b) := by
  unfold zac
  simp [Nat.ble_eq]
theorem zac_n2 (b : Nat) : (zac (some b) none = true) = (3 ≤ b) := by
  unfold zac
  simp [Nat.ble_eq]
theorem zac_nn : zac none none = true := rfl
theorem zac_s (a b : Nat) : (zac (some a) (some b) = true) = (a = b ∨ (3 ≤ a ∧ 3 ≤ b ∧ (zNC ≤ a ∨ zNC ≤ b))) := by
  unfold zac
  simp [Nat.beq_eq, Nat.ble_eq]
theorem zaq_e (x y : Option Nat) : (zaq .eq x y = true) = (x = y) := by simp [zaq]
theorem zaq_n (x y : Option Nat) : (zaq .ne x y = true) = ¬ (x = y) := by simp [zaq]
theorem wp_ret (hc : zcode k pc = some (nx, .return_)) : WP k lv pc L [] h Q ↔ Q (.inl none) h := by rw [WP_of hc]; exact ⟨fun ⟨_, z⟩ => z, fun z => ⟨0, z⟩⟩
theorem wp_iret {P : Prop} (hc : zcode k pc = some (nx, .ireturn)) (hP : zrok (zRT k) x = P) : WP k lv pc L [vI x] h Q ↔ (P ∧ Q (.inl (some (vI x))) h) := by subst hP; rw [WP_of hc]; exact ⟨fun ⟨_, z⟩ => z, fun z => ⟨0, z⟩⟩
theorem wp_iret0 (hc : zcode k pc = some (nx, .ireturn)) (hP : zRT k = 0) : WP k lv pc L [vI x] h Q ↔ Q (.inl (some (vI x))) h := by
  rw [wp_iret hc (P := True) (by rw [hP]; rfl)]; exact ⟨fun z => z.2, fun z => ⟨trivial, z⟩⟩
theorem wp_lret (hc : zcode k pc = some (nx, .lreturn)) : WP k lv pc L [vL x] h Q ↔ Q (.inl (some (vL x))) h := by rw [WP_of hc]; exact ⟨fun ⟨_, z⟩ => z, fun z => ⟨0, z⟩⟩
theorem wp_aret (hc : zcode k pc = some (nx, .areturn)) : WP k lv pc L [vA r] h Q ↔ Q (.inl (some (vA r))) h := by rw [WP_of hc]; exact ⟨fun ⟨_, z⟩ => z, fun z => ⟨0, z⟩⟩
theorem zw_n : zw [] = 0 := rfl
theorem zw_i (x : Int) (S : List V) : zw (vI x :: S) = zw S + 1 := rfl
theorem zw_l (x : Int) (S : List V) : zw (vL x :: S) = zw S + 2 := rfl
theorem zw_a (r : Option Nat) (S : List V) : zw (vA r :: S) = zw S + 1 := rfl
/-- behind a call -/
def zret (k lv pc nx : Nat) (L S : List V) (Q : ZO → MH → Prop) (o : ZO) (h : MH) : Prop := match o with
  | .inl none => WP k lv nx L S h Q
  | .inl (some v) => WP k lv nx L (v :: S) h Q
  | .inr e => match zHF pc (hk h e).1 (zHD k) with
    | some t => WP k lv t L [vA (some e)] h Q
    | none => Q (.inr e) h
def zretn (i k lv pc nx : Nat) (L S : List V) (Q : ZO → MH → Prop) (o : ZO) (h : MH) : Prop := match o with
  | .inl none => WPn i k lv nx L S h Q
  | .inl (some v) => WPn i k lv nx L (v :: S) h Q
  | .inr e => match zHF pc (hk h e).1 (zHD k) with
    | some t => WPn i k lv t L [vA (some e)] h Q
    | none => Q (.inr e) h
theorem zret_n : zret k lv pc nx L S Q (.inl none) h = WP k lv nx L S h Q := rfl
theorem zret_v (v : V) : zret k lv pc nx L S Q (.inl (some v)) h = WP k lv nx L (v :: S) h Q := rfl
theorem zret_x (hd : zHD k = []) (e : Nat) : zret k lv pc nx L S Q (.inr e) h = Q (.inr e) h := by show (match zHF pc (hk h e).1 (zHD k) with | some t => _ | none => _) = _; rw [hd]; rfl
theorem zret_h (e : Nat) : zret k lv pc nx L S Q (.inr e) h = (match zHF pc (hk h e).1 (zHD k) with | some t => WP k lv t L [vA (some e)] h Q | none => Q (.inr e) h) := rfl
theorem zcall_iff {m n : Nat} {as S' : List V} (hpop : zpop n [] S = some (as, S')) (hcan : zcan k lv m) (hle : Nat.ble (zlay as).length (zML m) = true) : (∃ j, zcall (WPn j) k lv pc nx m n L S h Q) ↔ (zw S' ≤ 8 ∧ WP m (zlv k lv m) 0 (zin m as) [] h (zret k lv pc nx L S' Q)) := by
  constructor
  · rintro ⟨j, z⟩
    unfold zcall at z
    rw [hpop] at z
    refine ⟨z.1.2.1, j, WPn_post _ _ _ _ _ _ _ _ _ (fun o h1 p => ?_) z.2⟩
    unfold zret
    split at p
    · exact ⟨j, p⟩
    · exact ⟨j, p⟩
    · rename_i e0
      cases ht : zHF pc (hk h1 e0).1 (zHD k) with
      | some t => rw [ht] at p; simp only [ht]; exact ⟨j, p⟩
      | none => rw [ht] at p; simp only [ht]; exact p
  · rintro ⟨hw, j, z⟩
    obtain ⟨o, h1, z1, z2⟩ := WPn_det _ _ _ _ _ _ _ _ z
    have key : ∃ i, j ≤ i ∧ zretn i k lv pc nx L S' Q o h1 := by
      rcases o with (_ | v) | e0
      · obtain ⟨i, z1⟩ := z1
        exact ⟨max i j, Nat.le_max_right _ _, WPn_le (Nat.le_max_left _ _) z1⟩
      · obtain ⟨i, z1⟩ := z1
        exact ⟨max i j, Nat.le_max_right _ _, WPn_le (Nat.le_max_left _ _) z1⟩
      · rw [zret_h] at z1
        cases ht : zHF pc (hk h1 e0).1 (zHD k) with
        | some t =>
          rw [ht] at z1
          obtain ⟨i, z1⟩ := z1
          exact ⟨max i j, Nat.le_max_right _ _, by unfold zretn; simp only [ht]; exact WPn_le (Nat.le_max_left _ _) z1⟩
        | none =>
          rw [ht] at z1
          exact ⟨j, Nat.le_refl _, by unfold zretn; simp only [ht]; exact z1⟩
    obtain ⟨i, hij, z3⟩ := key
    refine ⟨i, ?_⟩
    unfold zcall
    rw [hpop]
    exact ⟨⟨hcan, hw, hle⟩, WPn_post _ _ _ _ _ _ _ _ _ (fun o' h' e => by obtain ⟨rfl, rfl⟩ := e; exact z3) (WPn_le hij z2)⟩
theorem wp_S {m l2 : Nat} {as S' L2 : List V} (hc : zcode k pc = some (nx, .invokestatic m)) (hpop : zpop (zNA m) [] S = some (as, S')) (hcan : zcan k lv m) (hl : zlv k lv m = l2) (hin : zin m as = L2) (hle : Nat.ble (zlay as).length (zML m) = true) : WP k lv pc L S h Q ↔ (zw S' ≤ 8 ∧ WP m l2 0 L2 [] h (zret k lv pc nx L S' Q)) := by
  subst hl; subst hin
  rw [WP_of hc]; exact zcall_iff hpop hcan hle
theorem wp_I {m l2 : Nat} {as S' L2 : List V} (hc : zcode k pc = some (nx, .invokespecial m)) (hr : zrecv (zNA m) S = some a) (hpop : zpop (zNA m) [] S = some (as, S')) (hcan : zcan k lv m) (hl : zlv k lv m = l2) (hin : zin m as = L2) (hle : Nat.ble (zlay as).length (zML m) = true) : WP k lv pc L S h Q ↔ ((zNC ≤ a ∧ 100 ≤ (hk h a).1) ∧ zw S' ≤ 8 ∧ WP m l2 0 L2 [] h (zret k lv pc nx L S' Q)) := by
  subst hl; subst hin
  rw [WP_of hc]
  show (∃ n, (match zrecv (zNA m) S with | some a => (zNC ≤ a ∧ 100 ≤ (hk h a).1) ∧ zcall (WPn n) k lv pc nx m (zNA m) L S h Q | none => False)) ↔ _
  rw [hr]
  have key := zcall_iff (nx := nx) (pc := pc) (L := L) (h := h) (Q := Q) hpop hcan hle
  exact ⟨fun ⟨n, z⟩ => ⟨z.1, key.mp ⟨n, z.2⟩⟩, fun z => (key.mpr z.2).elim fun n q => ⟨n, z.1, q⟩⟩
theorem wp_V {v m l2 c : Nat} {as S' L2 : List V} (hc : zcode k pc = some (nx, .invokevirtual v)) (hr : zrecv (zVN v) S = some a) (hv : zVT v c = some m) (hn : zVN v = zNA m) (hpop : zpop (zVN v) [] S = some (as, S')) (hcan : zcan k lv m) (hl : zlv k lv m = l2) (hin : zin m as = L2) (hle : Nat.ble (zlay as).length (zML m) = true) (hk0 : (hk h a).1 = c) : WP k lv pc L S h Q ↔ (zw S' ≤ 8 ∧ WP m l2 0 L2 [] h (zret k lv pc nx L S' Q)) := by
  subst hl; subst hin
  rw [WP_of hc]
  show (∃ n, (match zrecv (zVN v) S with | some a => (match zVT v (hk h a).1 with | some m => zcall (WPn n) k lv pc nx m (zVN v) L S h Q | none => False) | none => False)) ↔ _
  rw [hr]
  show (∃ n, (match zVT v (hk h a).1 with | some m => zcall (WPn n) k lv pc nx m (zVN v) L S h Q | none => False)) ↔ _
  rw [hk0, hv]; exact zcall_iff hpop hcan hle
theorem wp_F {v m l2 c g : Nat} {as S' L2 : List V} (hc : zcode k pc = some (nx, .invokeinterface v g)) (hr : zrecv (zVN v) S = some a) (hv : zVT v c = some m) (hn : zVN v = zNA m) (hpop : zpop (zVN v) [] S = some (as, S')) (hcan : zcan k lv m) (hl : zlv k lv m = l2) (hin : zin m as = L2) (hle : Nat.ble (zlay as).length (zML m) = true) (hk0 : (hk h a).1 = c) : WP k lv pc L S h Q ↔ (zw S' ≤ 8 ∧ WP m l2 0 L2 [] h (zret k lv pc nx L S' Q)) := by
  subst hl; subst hin
  rw [WP_of hc]
  show (∃ n, (match zrecv (zVN v) S with | some a => (match zVT v (hk h a).1 with | some m => zcall (WPn n) k lv pc nx m (zVN v) L S h Q | none => False) | none => False)) ↔ _
  rw [hr]
  show (∃ n, (match zVT v (hk h a).1 with | some m => zcall (WPn n) k lv pc nx m (zVN v) L S h Q | none => False)) ↔ _
  rw [hk0, hv]; exact zcall_iff hpop hcan hle
end
