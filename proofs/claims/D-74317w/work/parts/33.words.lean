/-! Words that the steps ask for. -/
theorem zObj1 : Cond.instanceMethod Lib.objectInit ∈ lw_all := q174
theorem zObj2 : Cond.code Lib.objectInit ⟨#[0xb1]⟩ 1 none ∈ lw_all := q175
theorem zAr_int : Cond.arrayClass .int ∈ lw_all := q1513
theorem zAr_byte : Cond.arrayClass .byte ∈ lw_all := q215
theorem zAr_boolean : Cond.arrayClass .boolean ∈ lw_all := q2359
theorem zAr_long : Cond.arrayClass .long ∈ lw_all := q1685
theorem zAo5 : Cond.arrayOver (.object "java/lang/Object") ∈ zNw := nw q263 rfl
theorem zAo6 : Cond.arrayOver (.object "RepeatFree$Pattern") ∈ zNw := nw q238 rfl
theorem zAo7 : Cond.arrayOver (.array .byte) ∈ zNw := nw q1442 rfl
theorem zCp1 : Cond.native arraycopyName ∈ lw_all := q559
theorem zCp2 : Cond.static arraycopyName ∈ lw_all := q558
theorem zCp3 : Cond.initialized "java/lang/System" ∈ lw_all := q140
theorem zClB1 : Cond.sameMethod "[B" "java/lang/Object" "clone" "()Ljava/lang/Object;" ∈ lw_all := q834
theorem zClJ1 : Cond.sameMethod "[J" "java/lang/Object" "clone" "()Ljava/lang/Object;" ∈ lw_all := q1711
theorem zCl2 : Cond.native ⟨"java/lang/Object", "clone", "()Ljava/lang/Object;"⟩ ∈ lw_all := q835
theorem zCl3 : Cond.instanceMethod ⟨"java/lang/Object", "clone", "()Ljava/lang/Object;"⟩ ∈ lw_all := q836
theorem zClB4 : Cond.selects "[B" ⟨"[B", "clone", "()Ljava/lang/Object;"⟩ ⟨"java/lang/Object", "clone", "()Ljava/lang/Object;"⟩ ∈ lw_all := q837
theorem zClJ4 : Cond.selects "[J" ⟨"[J", "clone", "()Ljava/lang/Object;"⟩ ⟨"java/lang/Object", "clone", "()Ljava/lang/Object;"⟩ ∈ lw_all := q1712
theorem zClB5 : Cond.castable "[B" "java/lang/Cloneable" ∈ zNw := nw q838 rfl
theorem zClJ5 : Cond.castable "[J" "java/lang/Cloneable" ∈ zNw := nw q1713 rfl
theorem zCO {kd : Nat} (h1 : 100 ≤ kd) (h2 : kd ≤ 123) : Cond.castable (zcn (kd - 100)) "java/lang/Object" ∈ zNw := by
  rcases (show kd = 100 ∨ kd = 101 ∨ kd = 102 ∨ kd = 103 ∨ kd = 104 ∨ kd = 105 ∨ kd = 106 ∨ kd = 107 ∨ kd = 108 ∨ kd = 109 ∨ kd = 110 ∨ kd = 111 ∨ kd = 112 ∨ kd = 113 ∨ kd = 114 ∨ kd = 115 ∨ kd = 116 ∨ kd = 117 ∨ kd = 118 ∨ kd = 119 ∨ kd = 120 ∨ kd = 121 ∨ kd = 122 ∨ kd = 123 by omega) with z | z | z | z | z | z | z | z | z | z | z | z | z | z | z | z | z | z | z | z | z | z | z | z <;> subst z
  · exact nw q2853 rfl
  · exact nw q2854 rfl
  · exact nw q2856 rfl
  · exact nw q2867 rfl
  · exact nw q2868 rfl
  · exact nw q2852 rfl
  · exact nw q2879 rfl
  · exact nw q2876 rfl
  · exact nw q2859 rfl
  · exact nw q2865 rfl
  · exact nw q2858 rfl
  · exact nw q2855 rfl
  · exact nw q2873 rfl
  · exact nw q2871 rfl
  · exact nw q2857 rfl
  · exact nw q2875 rfl
  · exact nw q2862 rfl
  · exact nw q2863 rfl
  · exact nw q2880 rfl
  · exact nw q2860 rfl
  · exact nw q2864 rfl
  · exact nw q2874 rfl
  · exact nw q2869 rfl
  · exact nw q2872 rfl
theorem zCN1 : Cond.castable "RepeatFree$Mapping" "RepeatFree$Named" ∈ zNw := nw q2850 rfl
theorem zCN2 : Cond.castable "RepeatFree$Pattern" "RepeatFree$Named" ∈ zNw := nw q2851 rfl
theorem zlk_mem {α : Type} {v : α} : ∀ (l : List (Nat × List α)) (k : Nat), v ∈ zlk [] k l → ∃ e, e ∈ l ∧ e.1 = k ∧ v ∈ e.2 := by
  intro l
  induction l with
  | nil => intro k hk; cases hk
  | cons e l ih =>
    intro k hk
    unfold zlk at hk
    cases hb : Nat.beq e.1 k with
    | true =>
      rw [hb] at hk
      exact ⟨e, List.mem_cons_self, Nat.eq_of_beq_eq_true hb, hk⟩
    | false =>
      rw [hb] at hk
      obtain ⟨e', h1, h2⟩ := ih k hk
      exact ⟨e', List.mem_cons_of_mem _ h1, h2⟩
theorem zCY_all : zCY_t.all (fun e => e.2.all (fun kd => (decide (100 ≤ kd) && decide (zcn (kd - 100) = zCn e.1)) || (decide (e.1 = 7) && (decide (kd = 104) || decide (kd = 105))) || (decide (kd = 2) && decide (zCn e.1 = "[B")) || (decide (kd = 4) && decide (zCn e.1 = "[J")) || (decide (kd = 1) && decide (zCn e.1 = "[I")) || (decide (kd = 5) && decide (zCn e.1 = "[Ljava/lang/Object;")))) = true := by decide +kernel
theorem zCX_ok {s : State} {c0 kd a : Nat} (hN : ∀ w, w ∈ zNw → va_Nw w s) (h : zCX c0 kd a = true) : zCast s kd (zCn c0) ∧ (100 ≤ kd ∨ 55 ≤ a) := by
  unfold zCX at h
  rw [Bool.and_eq_true, Bool.or_eq_true, Nat.ble_eq, Nat.ble_eq] at h
  refine ⟨?_, h.2⟩
  have h1 := h.1
  unfold zCY at h1
  obtain ⟨e, he, rfl, hk⟩ := zlk_mem _ _ (List.contains_iff_mem.mp h1)
  have := List.all_eq_true.mp (List.all_eq_true.mp zCY_all e he) kd hk
  simp only [Bool.or_eq_true, Bool.and_eq_true, decide_eq_true_eq] at this
  unfold zCast
  rcases this with ((((z | z) | z) | z) | z) | z
  · exact Or.inl ⟨z.1, Or.inl z.2⟩
  · refine Or.inl ⟨by omega, Or.inr ?_⟩
    rw [z.1]
    rcases z.2 with z | z <;> rw [z]
    · exact hN _ zCN1
    · exact hN _ zCN2
  · exact Or.inr (Or.inl z)
  · exact Or.inr (Or.inr (Or.inl z))
  · exact Or.inr (Or.inr (Or.inr (Or.inl z)))
  · exact Or.inr (Or.inr (Or.inr (Or.inr z)))
theorem zAnyC {s : State} {H : Heap} {t : Nat} {C E : String} {cell : Cell} (f3 : H[t]? = some cell) (f4 : cell.vm.isStatics = false) (f5 : s.vm.findClass C = some cell.cls) (hca : va_Nw (.castable C E) s) : va_Any E s H t := by
  obtain ⟨kC, hkC, -⟩ := Vm.findClass_spec f5
  exact ⟨cell, f3, f4, ⟨kC, hkC⟩, fun comp hc => vb_asgC hca comp _ hc f5⟩
theorem zAnyS {s : State} {H : Heap} {t : Nat} {C : String} {cell : Cell} (f3 : H[t]? = some cell) (f4 : cell.vm.isStatics = false) (f5 : s.vm.findClass C = some cell.cls) : va_Any C s H t := by
  obtain ⟨kC, hkC, -⟩ := Vm.findClass_spec f5
  exact ⟨cell, f3, f4, ⟨kC, hkC⟩, fun comp hc => vb_asgS comp _ hc f5⟩
section
variable {p : Program} {l : Launch} {e : Env} {R : Room} {s : State} {m : MethodId} {args : Array Value} {below : List Frame} {meth : Method} {c : Code} {Qf : State → Prop} {D : va_G} {A : Nat → Prop} {ρs : Nat → Value} {hc h0 : MH} {nL pc nx : Nat} {L S : List V} {h : MH} {cc : ByteArray} {x y : Int} {r q : Option Nat} {a b : Nat}
theorem zs_castN (hx : p.tables.exec = Jvm.exec) (hb : c.code = cc) {own nm : String} {i : Nat} (hown : s.vm.findClass own = some m.cls) (hlink : (Cond.classLink own i nm).before args s = true) (d : decode cc pc = .ok (.checkcast i, 3)) (k : ZGo p l e R s m args below meth c Qf D A ρs hc h0 nL (pc + 3) L (vA none :: S) h) : ZGo p l e R s m args below meth c Qf D A ρs hc h0 nL pc L (vA none :: S) h := by
  intro ρ κ H locs ls g1 g2 g3 g4 T hT X
  obtain ⟨t, a1, b1⟩ := k ρ κ H locs ls g1 g2 g3 g4 T hT X
  exact ⟨t, X.checkcastNull hx (g := F0 m pc ls (.null :: S.map (cv ρ))) rfl rfl (by rw [hb]; exact d) t a1, b1⟩
end
