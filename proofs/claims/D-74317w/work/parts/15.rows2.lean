/-! More of the opcodes' lemmas, in the form in which the rows by place use them. -/
theorem zc_eq (x y : Int) : zcmp .eq x y = true ↔ x = y := by simp [zcmp]
theorem zc_lt (x y : Int) : zcmp .lt x y = true ↔ x < y := by simp [zcmp]
theorem zc_gt (x y : Int) : zcmp .gt x y = true ↔ y < x := by simp [zcmp]
theorem zif_not (c A B : Prop) : zif (¬ c) A B = zif c B A := propext ⟨fun q => ⟨fun h => q.2 (fun n => n h), q.1⟩, fun q => ⟨q.2, fun h => q.1 (Classical.byContradiction h)⟩⟩
def zlc (x y : Int) : Int := if x < y then -1 else if x = y then 0 else 1
theorem zlc_0 (x y : Int) : (zlc x y = 0) = (x = y) := by unfold zlc; split <;> (try split) <;> simp <;> omega
theorem zlc_lt (x y : Int) : (zlc x y < 0) = (x < y) := by unfold zlc; split <;> (try split) <;> simp <;> omega
theorem zlc_gt (x y : Int) : (0 < zlc x y) = (y < x) := by unfold zlc; split <;> (try split) <;> simp <;> omega
def zref (h : MH) (a : Nat) (r : Option Nat) : Prop := match r with
  | none => (hk h a).1 ≤ 6
  | some b => (3 ≤ b ∧ ((hk h a).1 = 5 → 100 ≤ (hk h b).1) ∧ ((hk h a).1 = 6 → (hk h b).1 = 105) ∧ ((hk h a).1 = 7 → (hk h b).1 = 2 ∧ zNC ≤ b))
theorem zref_n (h : MH) (a : Nat) : zref h a none = ((hk h a).1 ≤ 6) := rfl
theorem zref_s (h : MH) (a b : Nat) : zref h a (some b) = (3 ≤ b ∧ ((hk h a).1 = 5 → 100 ≤ (hk h b).1) ∧ ((hk h a).1 = 6 → (hk h b).1 = 105) ∧ ((hk h a).1 = 7 → (hk h b).1 = 2 ∧ zNC ≤ b)) := rfl
theorem zcan_of {k lv m : Nat} (h1 : Nat.beq m k = false) (h2 : Nat.blt (zRK m + zMX m) (zRK k) = true) : zcan k lv m := by
  unfold zcan
  rw [if_neg (fun e => by rw [e, Nat.beq_refl] at h1; cases h1)]
  exact Nat.le_of_ble_eq_true h2
theorem zcan_self {k lv : Nat} : zcan k (lv + 1) k := by
  unfold zcan
  rw [if_pos rfl]; exact Nat.succ_le_succ (Nat.zero_le _)
section
variable {k lv pc nx : Nat} {L S : List V} {h : MH} {Q : ZO → MH → Prop} {x y : Int} {r q : Option Nat} {a b : Nat}
theorem wp_bE {f : ClassFile.Cond} {i : Instr} {c : Int → Int → Prop} (hz : ∀ x y, zcmp f x y = true ↔ c x y) (hc : zcode k pc = some (nx, i)) (hp : zpl i = true) {S' : List V} {pc' : Nat} (he : plain i nx L S h = if zcmp f x y = true then some (pc', L, S', h) else some (nx, L, S', h)) : WP k lv pc L S h Q ↔ zif (c x y) (WP k lv pc' L S' h Q) (WP k lv nx L S' h Q) := wp_brc (hz x y) hc hp he
theorem zc_nE {x y : Int} {f g : ClassFile.Cond} {c : Int → Int → Prop} (hz : ∀ x y, zcmp g x y = true ↔ c x y) (hn : zcmp f x y = !zcmp g x y) : zcmp f x y = true ↔ ¬ c x y := by
  rw [hn, ← hz x y]; cases zcmp g x y <;> simp
theorem zc_neg (f g : ClassFile.Cond) (h : (f = .ne ∧ g = .eq) ∨ (f = .ge ∧ g = .lt) ∨ (f = .le ∧ g = .gt)) (x y : Int) : zcmp f x y = !zcmp g x y := by
  rcases h with ⟨rfl, rfl⟩ | ⟨rfl, rfl⟩ | ⟨rfl, rfl⟩
  · simp [zcmp]
  · by_cases h : x < y
    · have h2 : ¬ y ≤ x := by omega
      simp [zcmp, h, h2]
    · have h2 : y ≤ x := by omega
      simp [zcmp, h, h2]
  · by_cases h : y < x
    · have h2 : ¬ x ≤ y := by omega
      simp [zcmp, h, h2]
    · have h2 : x ≤ y := by omega
      simp [zcmp, h, h2]
theorem wp_bN {f g : ClassFile.Cond} {i : Instr} {c : Int → Int → Prop} (hz : ∀ x y, zcmp g x y = true ↔ c x y) (hc : zcode k pc = some (nx, i)) (hp : zpl i = true) {S' : List V} {pc' : Nat} (he : plain i nx L S h = if zcmp f x y = true then some (pc', L, S', h) else some (nx, L, S', h)) (hfg : (f = .ne ∧ g = .eq) ∨ (f = .ge ∧ g = .lt) ∨ (f = .le ∧ g = .gt) := by first | exact Or.inl ⟨rfl, rfl⟩ | exact Or.inr (Or.inl ⟨rfl, rfl⟩) | exact Or.inr (Or.inr ⟨rfl, rfl⟩)) : WP k lv pc L S h Q ↔ zif (c x y) (WP k lv nx L S' h Q) (WP k lv pc' L S' h Q) := by
  rw [wp_brc (zc_nE hz (zc_neg f g hfg x y)) hc hp he, zif_not]
theorem wp_put0 {f : Nat} (hc : zcode k pc = some (nx, .putfield f)) (hf : zFT f = 0) : WP k lv pc L (vI x :: vA (some a) :: S) h Q ↔ ((zNC ≤ a ∧ zhas f (hk h a) = true) ∧ WP k lv nx L S (hput h a f (vI x)) Q) :=
  wp_if' (c := zNC ≤ a ∧ zhas f (hk h a) = true ∧ zok (zFT f) (vI x) = true) (by rw [hf]; exact ⟨fun z => ⟨z.1, z.2.1⟩, fun z => ⟨z.1, z.2, rfl⟩⟩) hc rfl rfl
theorem wp_put1 {f : Nat} (hc : zcode k pc = some (nx, .putfield f)) (hf : zFT f = 1) : WP k lv pc L (vI x :: vA (some a) :: S) h Q ↔ ((zNC ≤ a ∧ zhas f (hk h a) = true ∧ (x = 0 ∨ x = 1)) ∧ WP k lv nx L S (hput h a f (vI x)) Q) :=
  wp_if' (c := zNC ≤ a ∧ zhas f (hk h a) = true ∧ zok (zFT f) (vI x) = true) (by rw [hf]; exact ⟨fun z => ⟨z.1, z.2.1, of_decide_eq_true z.2.2⟩, fun z => ⟨z.1, z.2.1, decide_eq_true z.2.2⟩⟩) hc rfl rfl
theorem wp_put2 {f : Nat} (hc : zcode k pc = some (nx, .putfield f)) (hf : zFT f = 2) : WP k lv pc L (vL x :: vA (some a) :: S) h Q ↔ ((zNC ≤ a ∧ zhas f (hk h a) = true) ∧ WP k lv nx L S (hput h a f (vL x)) Q) :=
  wp_if' (c := zNC ≤ a ∧ zhas f (hk h a) = true ∧ zok (zFT f) (vL x) = true) (by rw [hf]; exact ⟨fun z => ⟨z.1, z.2.1⟩, fun z => ⟨z.1, z.2, rfl⟩⟩) hc rfl rfl
theorem wp_put3 {f : Nat} (hc : zcode k pc = some (nx, .putfield f)) (hf : zFT f = 3) : WP k lv pc L (vA r :: vA (some a) :: S) h Q ↔ ((zNC ≤ a ∧ zhas f (hk h a) = true) ∧ WP k lv nx L S (hput h a f (vA r)) Q) :=
  wp_if' (c := zNC ≤ a ∧ zhas f (hk h a) = true ∧ zok (zFT f) (vA r) = true) (by rw [hf]; exact ⟨fun z => ⟨z.1, z.2.1⟩, fun z => ⟨z.1, z.2, rfl⟩⟩) hc rfl rfl
theorem wp_put4 {f : Nat} (hc : zcode k pc = some (nx, .putfield f)) (hf : zFT f = 4) : WP k lv pc L (vI x :: vA (some a) :: S) h Q ↔ ((zNC ≤ a ∧ zhas f (hk h a) = true ∧ (-128 ≤ x ∧ x ≤ 127)) ∧ WP k lv nx L S (hput h a f (vI x)) Q) :=
  wp_if' (c := zNC ≤ a ∧ zhas f (hk h a) = true ∧ zok (zFT f) (vI x) = true) (by rw [hf]; exact ⟨fun z => ⟨z.1, z.2.1, of_decide_eq_true z.2.2⟩, fun z => ⟨z.1, z.2.1, decide_eq_true z.2.2⟩⟩) hc rfl rfl
theorem wp_anew {t : Nat} (hc : zcode k pc = some (nx, .anewarray t)) (h5 : Nat.ble 5 t = true) (h7 : Nat.ble t 7 = true) : WP k lv pc L (vI x :: S) h Q ↔ ((0 ≤ x ∧ x ≤ 1000000) ∧ WP k lv nx L (vA (some (hn h)) :: S) (hnew h (t, x.toNat) x.toNat (fun _ => vA none)) Q) :=
  wp_if' (c := 0 ≤ x ∧ x ≤ 1000000 ∧ 5 ≤ t ∧ t ≤ 7) ⟨fun z => ⟨z.1, z.2.1⟩, fun z => ⟨z.1, z.2, Nat.le_of_ble_eq_true h5, Nat.le_of_ble_eq_true h7⟩⟩ hc rfl rfl
theorem wp_athrow (hh : ∀ c, zHF pc c (zHD k) = none) (hc : zcode k pc = some (nx, .athrow)) : WP k lv pc L (vA (some a) :: S) h Q ↔ ((((120 ≤ (hk h a).1 ∧ (hk h a).1 ≤ 123) ∨ (hk h a).1 = 109)) ∧ Q (.inr a) h) := by
  rw [WP_of hc]
  have e : ∀ n, zstep (WPn n) k lv pc nx .athrow L (vA (some a) :: S) h Q = ((((120 ≤ (hk h a).1 ∧ (hk h a).1 ≤ 123) ∨ (hk h a).1 = 109)) ∧ Q (.inr a) h) := by
    intro n
    show ((((120 ≤ (hk h a).1 ∧ (hk h a).1 ≤ 123) ∨ (hk h a).1 = 109)) ∧ (match zHF pc (hk h a).1 (zHD k) with | some t => WPn n k lv t L [vA (some a)] h Q | none => Q (.inr a) h)) = _
    rw [hh]
  exact ⟨fun ⟨n, z⟩ => by rw [e] at z; exact z, fun z => ⟨0, by rw [e]; exact z⟩⟩
theorem wp_V1 {v m l2 c : Nat} {as S' L2 : List V} (hc : zcode k pc = some (nx, .invokevirtual v)) (hr : zrecv (zVN v) S = some a) (hv : ∀ c', zVT v c' = bif Nat.beq c c' then some m else none) (hn : zVN v = zNA m) (hpop : zpop (zVN v) [] S = some (as, S')) (hcan : zcan k lv m) (hl : zlv k lv m = l2) (hin : zin m as = L2) (hle : Nat.ble (zlay as).length (zML m) = true) : WP k lv pc L S h Q ↔ ((hk h a).1 = c ∧ zw S' ≤ 8 ∧ WP m l2 0 L2 [] h (zret k lv pc nx L S' Q)) := by
  by_cases hk0 : (hk h a).1 = c
  · rw [wp_V hc hr (by rw [hv]; rw [Nat.beq_refl]; rfl) hn hpop hcan hl hin hle hk0]
    exact ⟨fun z => ⟨hk0, z⟩, fun z => z.2⟩
  · rw [WP_of hc]
    have e : zVT v (hk h a).1 = none := by
      rw [hv]
      cases hb : Nat.beq c (hk h a).1 with
      | true => exact absurd (Nat.eq_of_beq_eq_true hb).symm hk0
      | false => rfl
    have e2 : ∀ n, zstep (WPn n) k lv pc nx (.invokevirtual v) L S h Q = False := by
      intro n
      show (match zrecv (zVN v) S with | some a => (match zVT v (hk h a).1 with | some m => zcall (WPn n) k lv pc nx m (zVN v) L S h Q | none => False) | none => False) = False
      rw [hr]
      show (match zVT v (hk h a).1 with | some m => zcall (WPn n) k lv pc nx m (zVN v) L S h Q | none => False) = False
      rw [e]
    exact ⟨fun ⟨n, z⟩ => by rw [e2] at z; exact z.elim, fun z => absurd z.1 hk0⟩
theorem wp_F1 {v m l2 c g : Nat} {as S' L2 : List V} (hc : zcode k pc = some (nx, .invokeinterface v g)) (hr : zrecv (zVN v) S = some a) (hv : ∀ c', zVT v c' = bif Nat.beq c c' then some m else none) (hn : zVN v = zNA m) (hpop : zpop (zVN v) [] S = some (as, S')) (hcan : zcan k lv m) (hl : zlv k lv m = l2) (hin : zin m as = L2) (hle : Nat.ble (zlay as).length (zML m) = true) : WP k lv pc L S h Q ↔ ((hk h a).1 = c ∧ zw S' ≤ 8 ∧ WP m l2 0 L2 [] h (zret k lv pc nx L S' Q)) := by
  by_cases hk0 : (hk h a).1 = c
  · rw [wp_F hc hr (by rw [hv]; rw [Nat.beq_refl]; rfl) hn hpop hcan hl hin hle hk0]
    exact ⟨fun z => ⟨hk0, z⟩, fun z => z.2⟩
  · rw [WP_of hc]
    have e : zVT v (hk h a).1 = none := by
      rw [hv]
      cases hb : Nat.beq c (hk h a).1 with
      | true => exact absurd (Nat.eq_of_beq_eq_true hb).symm hk0
      | false => rfl
    have e2 : ∀ n, zstep (WPn n) k lv pc nx (.invokeinterface v g) L S h Q = False := by
      intro n
      show (match zrecv (zVN v) S with | some a => (match zVT v (hk h a).1 with | some m => zcall (WPn n) k lv pc nx m (zVN v) L S h Q | none => False) | none => False) = False
      rw [hr]
      show (match zVT v (hk h a).1 with | some m => zcall (WPn n) k lv pc nx m (zVN v) L S h Q | none => False) = False
      rw [e]
    exact ⟨fun ⟨n, z⟩ => by rw [e2] at z; exact z.elim, fun z => absurd z.1 hk0⟩
theorem wp_aast (hc : zcode k pc = some (nx, .aastore)) : WP k lv pc L (vA r :: vI x :: vA (some a) :: S) h Q ↔ (((5 ≤ (hk h a).1 ∧ (hk h a).1 ≤ 7) ∧ (0 ≤ x ∧ x < ((hk h a).2 : Int)) ∧ zNC ≤ a ∧ zref h a r) ∧ WP k lv nx L S (hput h a x.toNat (vA r)) Q) := by
  cases r with
  | none => exact wp_if' (c := (5 ≤ (hk h a).1 ∧ (hk h a).1 ≤ 6) ∧ (0 ≤ x ∧ x < ((hk h a).2 : Int)) ∧ zNC ≤ a) (by rw [zref_n]; omega) hc rfl rfl
  | some b => exact wp_if' (c := (5 ≤ (hk h a).1 ∧ (hk h a).1 ≤ 7) ∧ (0 ≤ x ∧ x < ((hk h a).2 : Int)) ∧ zNC ≤ a ∧ (3 ≤ b ∧ ((hk h a).1 = 5 → 100 ≤ (hk h b).1) ∧ ((hk h a).1 = 6 → (hk h b).1 = 105) ∧ ((hk h a).1 = 7 → (hk h b).1 = 2 ∧ zNC ≤ b))) (by rw [zref_s]) hc rfl rfl
end
