/-! What the tables say at every place of the code; the frame of one method's run. -/
def zNice (w : Cond) : Bool := match w with
  | .fieldLinkNest _ _ _ _ _ _ => true
  | .methodLinkNest _ _ _ _ => true
  | .declares _ => true
  | .castable _ _ => true
  | .privateMethod _ => true
  | .arrayOver (.object _) => true
  | .arrayOver (.array .byte) => true
  | _ => false
/-- two words of the start that are no words of the tables -/
def zXw : List Cond := [Cond.methodLink "java/util/ImmutableCollections$AbstractImmutableList" 107 ⟨"java/util/ImmutableCollections$AbstractImmutableList", "indexOf", "(Ljava/lang/Object;)I"⟩, Cond.sameMethod "java/util/ImmutableCollections$AbstractImmutableList" "java/util/List" "indexOf" "(Ljava/lang/Object;)I"]
def zNw : List Cond := lw_tbl.filter zNice ++ zXw
theorem nw {w : Cond} (h : w ∈ lw_tbl) (g : zNice w = true) : w ∈ zNw := List.mem_append_left _ (List.mem_filter.mpr ⟨h, g⟩)
theorem zXw1 : Cond.methodLink "java/util/ImmutableCollections$AbstractImmutableList" 107 ⟨"java/util/ImmutableCollections$AbstractImmutableList", "indexOf", "(Ljava/lang/Object;)I"⟩ ∈ zNw := List.mem_append_right _ List.mem_cons_self
theorem zXw2 : Cond.sameMethod "java/util/ImmutableCollections$AbstractImmutableList" "java/util/List" "indexOf" "(Ljava/lang/Object;)I" ∈ zNw := List.mem_append_right _ (List.mem_cons_of_mem _ List.mem_cons_self)
theorem zNw_mv {w : Cond} (h : w ∈ zNw) {s U : State} (hW : s.WarmedH U.vm) (q : va_Nw w s) : va_Nw w U := by
  rcases List.mem_append.mp h with h | h
  rotate_left
  · rcases List.mem_cons.mp h with rfl | h
    · exact word_at hW (Or.inl rfl) q
    · rcases List.mem_cons.mp h with rfl | h
      · exact word_at hW (Or.inl rfl) q
      · cases h
  have g := (List.mem_filter.mp h).2
  cases w with
  | fieldLinkNest a b c d e f => exact va_Nw.warmF hW q
  | methodLinkNest a b c d => exact va_Nw.warmM hW q
  | declares x => exact va_Nw.warmD hW q
  | castable a b => exact va_Nw.warmC hW q
  | privateMethod x => exact va_tabs rfl (rfl : (s.setVm U.vm).vm = U.vm) (by rw [Cond.privateMethod_setVm hW.alike]; exact q)
  | arrayOver t =>
    cases t with
    | object C => exact va_AO.moved hW.alike q
    | array t =>
      cases t with
      | byte => exact zAB.moved hW.alike q
      | _ => exact Bool.noConfusion g
    | _ => exact Bool.noConfusion g
  | _ => exact Bool.noConfusion g
def zFws : List (String × MethodName × MethodName) := [("java/util/LinkedList$ListItr", ⟨"java/util/Iterator", "hasNext", "()Z"⟩, ⟨"java/util/LinkedList$ListItr", "hasNext", "()Z"⟩), ("java/util/LinkedList$ListItr", ⟨"java/util/Iterator", "next", "()Ljava/lang/Object;"⟩, ⟨"java/util/LinkedList$ListItr", "next", "()Ljava/lang/Object;"⟩), ("java/util/LinkedList$ListItr", ⟨"java/util/Iterator", "remove", "()V"⟩, ⟨"java/util/LinkedList$ListItr", "remove", "()V"⟩), ("java/util/LinkedList", ⟨"java/util/List", "contains", "(Ljava/lang/Object;)Z"⟩, ⟨"java/util/LinkedList", "contains", "(Ljava/lang/Object;)Z"⟩), ("java/util/ImmutableCollections$ListN", ⟨"java/util/List", "contains", "(Ljava/lang/Object;)Z"⟩, ⟨"java/util/ImmutableCollections$AbstractImmutableList", "contains", "(Ljava/lang/Object;)Z"⟩)]
theorem zFws_ok : zFws.all (fun q => decide (q.2.1.cls ≠ "java/lang/invoke/MethodHandle") && decide (q.2.1.cls ≠ "java/lang/invoke/VarHandle")) = true := by decide +kernel
def zNcs : List (String × String) := [("java/lang/IllegalArgumentException", "java/lang/IllegalStateException"), ("java/lang/IllegalArgumentException", "java/lang/IndexOutOfBoundsException"), ("java/lang/IllegalArgumentException", "java/util/NoSuchElementException"), ("java/lang/IllegalArgumentException", "RepeatFree$Wrong"), ("java/lang/IllegalStateException", "java/lang/IllegalArgumentException"), ("java/lang/IllegalStateException", "java/lang/IndexOutOfBoundsException"), ("java/lang/IllegalStateException", "java/util/NoSuchElementException"), ("java/lang/IllegalStateException", "RepeatFree$Wrong"), ("java/lang/IndexOutOfBoundsException", "java/lang/IllegalArgumentException"), ("java/lang/IndexOutOfBoundsException", "java/lang/IllegalStateException"), ("java/lang/IndexOutOfBoundsException", "java/util/NoSuchElementException"), ("java/lang/IndexOutOfBoundsException", "RepeatFree$Wrong"), ("java/util/NoSuchElementException", "java/lang/IllegalArgumentException"), ("java/util/NoSuchElementException", "java/lang/IllegalStateException"), ("java/util/NoSuchElementException", "java/lang/IndexOutOfBoundsException"), ("java/util/NoSuchElementException", "RepeatFree$Wrong"), ("RepeatFree$Wrong", "java/lang/IllegalArgumentException"), ("RepeatFree$Wrong", "java/lang/IllegalStateException"), ("RepeatFree$Wrong", "java/lang/IndexOutOfBoundsException"), ("RepeatFree$Wrong", "java/util/NoSuchElementException")]
def zTab (D : va_G) (s : State) : Prop := (∀ w, w ∈ zNw → va_Nw w s) ∧ (∀ q, q ∈ zFws → va_Fw q.1 q.2.1 q.2.2 s) ∧ (∀ q, q ∈ zNcs → va_Nc q.1 q.2 s) ∧ va_K D zcl [] s
theorem zTab.moved {D : va_G} {s U : State} (hW : s.WarmedH U.vm) (h : zTab D s) : zTab D U := by
  refine ⟨fun w hw => zNw_mv hw hW (h.1 w hw), fun q hq => ?_, fun q hq => (h.2.2.1 q hq).moved hW.alike, h.2.2.2.moved hW.alike⟩
  have := List.all_eq_true.mp zFws_ok q hq
  rw [Bool.and_eq_true, decide_eq_true_eq, decide_eq_true_eq] at this
  exact va_Fw.moved this hW.alike (h.2.1 q hq)
theorem zCon.moved {SR : List (String × Nat × String × Nat)} {A : Nat → Prop} {ρ ρ' : Nat → Value} {hc : MH} {s U : State} (hW : s.WarmedH U.vm) (hH : ∀ q : Nat, q < s.heap.size → ¬ A q → U.heap[q]? = s.heap[q]?) (hρ : ∀ a, a < 55 → ρ' a = ρ a) (h : zCon SR A ρ hc s) : zCon SR A ρ' hc U := by
  obtain ⟨h1, h2, h3, h4, h5, h6, h7, h8⟩ := h
  have hca : ∀ a, a < 55 → ca ρ' a = ca ρ a := fun a ha => ca_agree (hρ a ha)
  refine ⟨fun a a1 a2 => ?_, fun a a1 a2 => ?_, fun a a1 a2 a3 => ?_, fun a a1 a2 => ?_, fun q hq => ?_, fun e he => ?_, (h7.moved hW.alike).kept hH, (h8.moved hW.alike).kept hH⟩
  · rw [hρ a a2, hca a a2]; exact h1 a a1 a2
  · obtain ⟨g1, g2, g3⟩ := h2 a a1 a2
    rw [hca a a1]
    refine ⟨g1, (g2.moved hW.alike).kept hH, fun f f1 f2 f3 => ?_⟩
    obtain ⟨g4, g5⟩ := g3 f f1 f2 f3
    refine ⟨g4, ?_⟩
    rw [cv_agree hρ g4.1]
    exact (g5.moved hW.alike).kept hH
  · obtain ⟨g1, g2, g3⟩ := h3 a a1 a2 a3
    rw [hca a a1]
    refine ⟨g1, ?_, g3⟩
    obtain ⟨cell, t1, t2, t3, t4, t5, t6, t7⟩ := (g2.moved hW.alike).kept hH
    refine ⟨cell, t1, t2, t3, t4, t5, fun j hj => ?_, t7⟩
    show cell.slots[j]? = some (cv ρ' (hm hc a j))
    rw [cv_agree hρ (g3 j hj).2]
    exact t6 j hj
  · obtain ⟨g1, f, g2, g3⟩ := h4 a a1 a2
    rw [hca a a1]
    refine ⟨g1, f, (g2.moved hW.alike).kept hH, fun j j1 j2 => ?_⟩
    obtain ⟨g4, b, g5, g6⟩ := g3 j j1 j2
    refine ⟨?_, b, g5, g6⟩
    rw [g4, cv_agree hρ (by rw [g5]; exact g6)]
  · rw [cv_agree hρ (zST_ok hq).1]
    exact ((h5 q hq).moved hW.alike).kept hH
  · obtain ⟨g1, g2⟩ := h6 e he
    rw [hca _ g1.2]
    exact ⟨g1, g2.warm hW⟩
/-- the classes of casts -/
def zCn (c : Nat) : String := match c with
  | 1 => "java/lang/Integer"
  | 2 => "java/lang/String"
  | 3 => "RepeatFree$Pattern"
  | 4 => "RepeatFree$Mapping"
  | 5 => "RepeatFree$Run"
  | 6 => "RepeatFree$Word"
  | 7 => "RepeatFree$Named"
  | 8 => "[B"
  | 9 => "[Ljava/lang/Object;"
  | 10 => "[J"
  | _ => "[I"
def zCw (y : MethodName) (cc : ByteArray) (ml : Nat) (ret : Option FieldType) (hh : List (Nat × Nat × Nat × Nat)) : Cond := match hh with
  | [] => Cond.code y cc ml ret
  | _ => Cond.codeWith y cc ml ret hh
/-- which real method a method of the mini machine is -/
def zIs : Type := MethodName × ByteArray × Option FieldType × List (Nat × Nat × Nat × Nat)
def zpn (d : String) (n : Nat) : Prop := (parseMethodDescriptor d).map (fun d => d.parameters.length) = some n
def zLn (own : String) (i : Nat) (y : MethodName) : Prop := Cond.methodLink own i y ∈ lw_all ∨ ∃ host, Cond.methodLinkNest own i y host ∈ zNw
/-- how a virtual call finds its method, for a receiver of one kind -/
def zVev (own : String) (i : Nat) (x : MethodName) (kd : Nat) (I : zIs) : Prop :=
  Cond.instanceMethod I.1 ∈ lw_all ∧ ((x = I.1 ∧ Cond.selects (zcn (kd - 100)) x x ∈ lw_all ∧ ((Cond.methodLink own i x ∈ lw_all ∧ (I.2.2.2 = [] ∨ x.cls = zcn (kd - 100))) ∨ (I.2.2.2 = [] ∧ ∃ host, Cond.methodLinkNest own i x host ∈ zNw))) ∨
    (I.2.2.2 = [] ∧ Cond.methodLink own i x ∈ lw_all ∧ Cond.selects (zcn (kd - 100)) x I.1 ∈ lw_all ∧ ∃ owner, Cond.sameMethod x.cls owner x.name x.desc ∈ lw_all ∧ (Cond.declares ⟨owner, x.name, x.desc⟩ ∈ zNw ∨ (Cond.instanceMethod ⟨owner, x.name, x.desc⟩ ∈ lw_all ∧ ∃ b m0 r0, Cond.code ⟨owner, x.name, x.desc⟩ b m0 r0 ∈ lw_all)) ∧ owner ≠ "java/lang/invoke/MethodHandle" ∧ owner ≠ "java/lang/invoke/VarHandle") ∨
    (I.2.2.2 = [] ∧ x = I.1 ∧ Cond.methodLink own i x ∈ lw_all ∧ Cond.privateMethod x ∈ zNw ∧ Cond.sameMethod x.cls x.cls x.name x.desc ∈ lw_all) ∨
    (I.2.2.2 = [] ∧ Cond.methodLink own i x ∈ zNw ∧ ∃ owner, Cond.sameMethod x.cls owner x.name x.desc ∈ zNw ∧ Cond.selects (zcn (kd - 100)) ⟨owner, x.name, x.desc⟩ I.1 ∈ lw_all ∧ Cond.declares ⟨owner, x.name, x.desc⟩ ∈ zNw ∧ owner ≠ "java/lang/invoke/MethodHandle" ∧ owner ≠ "java/lang/invoke/VarHandle"))
/-- what the class file says at one place -/
def zEv (ML : List (Nat × zIs)) (SR : List (String × Nat × String × Nat)) (k : Nat) (y : MethodName) (ret : Option FieldType) (cc : ByteArray) (pc nx : Nat) (i : Instr) : Prop := match i with
  | .nop => False
  | .iload n => (nx = pc + 2 ∧ decode cc pc = .ok (.iload n, 2)) ∨ (nx = pc + 1 ∧ ∃ j : Fin 4, (j : Nat) = n ∧ decode cc pc = .ok (.iload_n j, 1))
  | .aload n => (nx = pc + 2 ∧ decode cc pc = .ok (.aload n, 2)) ∨ (nx = pc + 1 ∧ ∃ j : Fin 4, (j : Nat) = n ∧ decode cc pc = .ok (.aload_n j, 1))
  | .lload n => (nx = pc + 2 ∧ decode cc pc = .ok (.lload n, 2)) ∨ (nx = pc + 1 ∧ ∃ j : Fin 4, (j : Nat) = n ∧ decode cc pc = .ok (.lload_n j, 1))
  | .istore n => (nx = pc + 2 ∧ decode cc pc = .ok (.istore n, 2)) ∨ (nx = pc + 1 ∧ ∃ j : Fin 4, (j : Nat) = n ∧ decode cc pc = .ok (.istore_n j, 1))
  | .astore n => (nx = pc + 2 ∧ decode cc pc = .ok (.astore n, 2)) ∨ (nx = pc + 1 ∧ ∃ j : Fin 4, (j : Nat) = n ∧ decode cc pc = .ok (.astore_n j, 1))
  | .lstore n => (nx = pc + 2 ∧ decode cc pc = .ok (.lstore n, 2)) ∨ (nx = pc + 1 ∧ ∃ j : Fin 4, (j : Nat) = n ∧ decode cc pc = .ok (.lstore_n j, 1))
  | .iinc n c => nx = pc + 3 ∧ decode cc pc = .ok (.iinc n c, 3)
  | .iconst x => nx = pc + 1 ∧ decode cc pc = .ok (.iconst x, 1) ∧ (-2147483648 ≤ x ∧ x ≤ 2147483647)
  | .bipush x => nx = pc + 2 ∧ decode cc pc = .ok (.bipush x, 2) ∧ (-2147483648 ≤ x ∧ x ≤ 2147483647) ∧ (Int8.ofInt x).toInt32 = Int32.ofInt x
  | .sipush x => nx = pc + 3 ∧ decode cc pc = .ok (.sipush x, 3) ∧ (-2147483648 ≤ x ∧ x ≤ 2147483647) ∧ (Int16.ofInt x).toInt32 = Int32.ofInt x
  | .goto_w x => nx = pc + 2 ∧ (-2147483648 ≤ x ∧ x ≤ 2147483647) ∧ ∃ i, decode cc pc = .ok (.ldc i, 2) ∧ Cond.constant y.cls i (Int32.ofInt x) ∈ lw_all
  | .jsr_w x => nx = pc + 3 ∧ (-2147483648 ≤ x ∧ x ≤ 2147483647) ∧ ∃ i, decode cc pc = .ok (.ldc_w i, 3) ∧ Cond.constant y.cls i (Int32.ofInt x) ∈ lw_all
  | .lconst x => nx = pc + 1 ∧ decode cc pc = .ok (.lconst x, 1)
  | .jsr x => nx = pc + 3 ∧ (-9223372036854775808 ≤ x ∧ x ≤ 9223372036854775807) ∧ ∃ i, decode cc pc = .ok (.ldc2_w i, 3) ∧ Cond.constantLong y.cls i (Int64.ofInt x) ∈ lw_all
  | .aconst_null => nx = pc + 1 ∧ decode cc pc = .ok (.aconst_null, 1)
  | .ldc a => nx = pc + 2 ∧ ∃ i tx, decode cc pc = .ok (.ldc i, 2) ∧ (y.cls, i, tx, a) ∈ SR
  | .ldc_w a => nx = pc + 3 ∧ ∃ i tx, decode cc pc = .ok (.ldc_w i, 3) ∧ (y.cls, i, tx, a) ∈ SR
  | .getstatic q => nx = pc + 3 ∧ q < 9 ∧ ∃ i, decode cc pc = .ok (.getstatic i, 3) ∧ Cond.fieldLink y.cls i (zSN q).1 (zSN q).2.1 (zSN q).2.2 ∈ lw_all
  | .iadd => nx = pc + 1 ∧ decode cc pc = .ok (.iadd, 1)
  | .isub => nx = pc + 1 ∧ decode cc pc = .ok (.isub, 1)
  | .imul => nx = pc + 1 ∧ decode cc pc = .ok (.imul, 1)
  | .idiv => nx = pc + 1 ∧ decode cc pc = .ok (.idiv, 1)
  | .irem => nx = pc + 1 ∧ decode cc pc = .ok (.irem, 1)
  | .ineg => nx = pc + 1 ∧ decode cc pc = .ok (.ineg, 1)
  | .iand => nx = pc + 1 ∧ decode cc pc = .ok (.iand, 1)
  | .ior => nx = pc + 1 ∧ decode cc pc = .ok (.ior, 1)
  | .ixor => nx = pc + 1 ∧ decode cc pc = .ok (.ixor, 1)
  | .ishl => nx = pc + 1 ∧ decode cc pc = .ok (.ishl, 1)
  | .ishr => nx = pc + 1 ∧ decode cc pc = .ok (.ishr, 1)
  | .iushr => nx = pc + 1 ∧ decode cc pc = .ok (.iushr, 1)
  | .ladd => nx = pc + 1 ∧ decode cc pc = .ok (.ladd, 1)
  | .lsub => nx = pc + 1 ∧ decode cc pc = .ok (.lsub, 1)
  | .lmul => nx = pc + 1 ∧ decode cc pc = .ok (.lmul, 1)
  | .land => nx = pc + 1 ∧ decode cc pc = .ok (.land, 1)
  | .lor => nx = pc + 1 ∧ decode cc pc = .ok (.lor, 1)
  | .lxor => nx = pc + 1 ∧ decode cc pc = .ok (.lxor, 1)
  | .lshl => nx = pc + 1 ∧ decode cc pc = .ok (.lshl, 1)
  | .lushr => nx = pc + 1 ∧ decode cc pc = .ok (.lushr, 1)
  | .lcmp => nx = pc + 1 ∧ decode cc pc = .ok (.lcmp, 1)
  | .i2l => nx = pc + 1 ∧ decode cc pc = .ok (.i2l, 1)
  | .l2i => nx = pc + 1 ∧ decode cc pc = .ok (.l2i, 1)
  | .i2b => nx = pc + 1 ∧ decode cc pc = .ok (.i2b, 1)
  | .i2c => nx = pc + 1 ∧ decode cc pc = .ok (.i2c, 1)
  | .dup => nx = pc + 1 ∧ decode cc pc = .ok (.dup, 1)
  | .dup_x1 => nx = pc + 1 ∧ decode cc pc = .ok (.dup_x1, 1)
  | .dup2 => nx = pc + 1 ∧ decode cc pc = .ok (.dup2, 1)
  | .pop => nx = pc + 1 ∧ decode cc pc = .ok (.pop, 1)
  | .pop2 => nx = pc + 3 ∧ ∃ i, decode cc pc = .ok (.invokespecial i, 3) ∧ Cond.methodLink y.cls i Lib.objectInit ∈ lw_all
  | .goto t => ∃ off, decode cc pc = .ok (.goto off, 3) ∧ (pc : Int) + off = t ∧ 0 ≤ t
  | .ifCond c t => nx = pc + 3 ∧ ∃ off, decode cc pc = .ok (.ifCond c off, 3) ∧ (pc : Int) + off = t ∧ 0 ≤ t
  | .if_icmp c t => nx = pc + 3 ∧ ∃ off, decode cc pc = .ok (.if_icmp c off, 3) ∧ (pc : Int) + off = t ∧ 0 ≤ t
  | .if_acmp c t => nx = pc + 3 ∧ ∃ off, decode cc pc = .ok (.if_acmp c off, 3) ∧ (pc : Int) + off = t ∧ 0 ≤ t
  | .ifnull t => nx = pc + 3 ∧ ∃ off, decode cc pc = .ok (.ifnull off, 3) ∧ (pc : Int) + off = t ∧ 0 ≤ t
  | .ifnonnull t => nx = pc + 3 ∧ ∃ off, decode cc pc = .ok (.ifnonnull off, 3) ∧ (pc : Int) + off = t ∧ 0 ≤ t
  | .tableswitch d lo hi o => ∃ dflt offs len, decode cc pc = .ok (.tableswitch dflt lo hi offs, len) ∧ ((pc : Int) + dflt = d ∧ 0 ≤ d) ∧ offs.toList.map (fun o => (pc : Int) + o) = o.toList ∧ (∀ z ∈ o.toList, 0 ≤ z) ∧ hi = lo + offs.size - 1
  | .lookupswitch d o => ∃ dflt ps len, decode cc pc = .ok (.lookupswitch dflt ps, len) ∧ (ps.toList.zip (ps.toList.drop 1)).all (fun (a, next) => a.1 < next.1) = true ∧ ((pc : Int) + dflt = d ∧ 0 ≤ d) ∧ ps.toList.map (fun o => (o.1, (pc : Int) + o.2)) = o.toList ∧ (∀ z ∈ o.toList, 0 ≤ z.2)
  | .getfield f => nx = pc + 3 ∧ f ≠ 101 ∧ f ≠ 102 ∧ ∃ i ref, decode cc pc = .ok (.getfield i, 3) ∧ (Cond.fieldLink y.cls i ref (zFN f).2.1 (zFN f).2.2.1 ∈ lw_all ∨ (f < 99 ∧ ∃ host, Cond.fieldLinkNest y.cls i ref (zFN f).2.1 (zFN f).2.2.1 host ∈ zNw)) ∧ (ref = (zFN f).1 ∨ Cond.sameField ref (zFN f).1 (zFN f).2.1 (zFN f).2.2.1 ∈ lw_all)
  | .putfield f => nx = pc + 3 ∧ ∃ i ref, decode cc pc = .ok (.putfield i, 3) ∧ ((Cond.fieldLink y.cls i ref (zFN f).2.1 (zFN f).2.2.1 ∈ lw_all ∧ ((zFN f).2.2.2 = false ∨ ((zFN f).2.2.2 = true ∧ y.name = "<init>" ∧ (zFN f).1 = y.cls))) ∨ ((zFN f).2.2.2 = false ∧ ∃ host, Cond.fieldLinkNest y.cls i ref (zFN f).2.1 (zFN f).2.2.1 host ∈ zNw)) ∧ (ref = (zFN f).1 ∨ Cond.sameField ref (zFN f).1 (zFN f).2.1 (zFN f).2.2.1 ∈ lw_all)
  | .new c => nx = pc + 3 ∧ (100 ≤ c ∧ c ≤ 119) ∧ zSL c = (zOF c).length ∧ ∃ i, decode cc pc = .ok (.new i, 3) ∧ Cond.classLink y.cls i (zcn (c - 100)) ∈ lw_all
  | .multianewarray c _ => nx = pc + 7 ∧ (120 ≤ c ∧ c ≤ 123) ∧ ∃ ik ic, decode cc pc = .ok (.new ik, 3) ∧ decode cc (pc + 3) = .ok (.dup, 1) ∧ decode cc (pc + 4) = .ok (.invokespecial ic, 3) ∧ Cond.classLink y.cls ik (zcn (c - 100)) ∈ lw_all ∧ Cond.methodLink y.cls ic ⟨zcn (c - 100), "<init>", "()V"⟩ ∈ lw_all
  | .newarray t => nx = pc + 2 ∧ decode cc pc = .ok (.newarray t, 2)
  | .anewarray t => nx = pc + 3 ∧ ∃ i, decode cc pc = .ok (.anewarray i, 3) ∧ ((t = 5 ∧ Cond.classLink y.cls i "java/lang/Object" ∈ lw_all) ∨ (t = 6 ∧ Cond.classLink y.cls i "RepeatFree$Pattern" ∈ lw_all) ∨ (t = 7 ∧ Cond.classLink y.cls i "[B" ∈ lw_all))
  | .arraylength => nx = pc + 1 ∧ decode cc pc = .ok (.arraylength, 1)
  | .iaload => nx = pc + 1 ∧ decode cc pc = .ok (.iaload, 1)
  | .baload => nx = pc + 1 ∧ decode cc pc = .ok (.baload, 1)
  | .laload => nx = pc + 1 ∧ decode cc pc = .ok (.laload, 1)
  | .aaload => nx = pc + 1 ∧ decode cc pc = .ok (.aaload, 1)
  | .iastore => nx = pc + 1 ∧ decode cc pc = .ok (.iastore, 1)
  | .bastore => nx = pc + 1 ∧ decode cc pc = .ok (.bastore, 1)
  | .lastore => nx = pc + 1 ∧ decode cc pc = .ok (.lastore, 1)
  | .aastore => nx = pc + 1 ∧ decode cc pc = .ok (.aastore, 1)
  | .checkcast c => nx = pc + 3 ∧ ∃ i, decode cc pc = .ok (.checkcast i, 3) ∧ Cond.classLink y.cls i (zCn c) ∈ lw_all
  | .instanceof c => nx = pc + 3 ∧ ∃ i, decode cc pc = .ok (.instanceof i, 3) ∧ Cond.classLink y.cls i (zCn c) ∈ lw_all
  | .monitorenter => nx = pc + 3 ∧ ∃ i, decode cc pc = .ok (.invokestatic i, 3) ∧ Cond.methodLink y.cls i arraycopyName ∈ lw_all
  | .swap => nx = pc + 3 ∧ ∃ i, decode cc pc = .ok (.invokevirtual i, 3) ∧ Cond.methodLink y.cls i ⟨"[B", "clone", "()Ljava/lang/Object;"⟩ ∈ lw_all
  | .dup2_x2 => nx = pc + 3 ∧ ∃ i, decode cc pc = .ok (.invokevirtual i, 3) ∧ Cond.methodLink y.cls i ⟨"[J", "clone", "()Ljava/lang/Object;"⟩ ∈ lw_all
  | .return_ => decode cc pc = .ok (.return_, 1) ∧ ret = none
  | .ireturn => decode cc pc = .ok (.ireturn, 1) ∧ ((ret = some .int ∧ zRT k = 0) ∨ (ret = some .boolean ∧ zRT k = 1) ∨ (ret = some .byte ∧ zRT k = 2) ∨ (ret = some .char ∧ zRT k = 3))
  | .lreturn => decode cc pc = .ok (.lreturn, 1) ∧ ret = some .long
  | .areturn => decode cc pc = .ok (.areturn, 1) ∧ ∃ rt, ret = some rt ∧ ((∃ n, rt = .object n) ∨ ∃ t, rt = .array t)
  | .athrow => decode cc pc = .ok (.athrow, 1)
  | .invokestatic m => nx = pc + 3 ∧ ∃ i I, (m, I) ∈ ML ∧ decode cc pc = .ok (.invokestatic i, 3) ∧ zpn I.1.desc (zNA m) ∧ Cond.static I.1 ∈ lw_all ∧ (Cond.methodLink y.cls i I.1 ∈ lw_all ∨ (I.2.2.2 = [] ∧ ∃ host, Cond.methodLinkNest y.cls i I.1 host ∈ zNw))
  | .invokespecial m => nx = pc + 3 ∧ ∃ i I n, (m, I) ∈ ML ∧ decode cc pc = .ok (.invokespecial i, 3) ∧ zpn I.1.desc n ∧ zNA m = n + 1 ∧ I.2.2.2 = [] ∧ Cond.instanceMethod I.1 ∈ lw_all ∧ ((I.1.name = "<init>" ∧ I.2.2.1 = none ∧ zLn y.cls i I.1) ∨ (I.1.name ≠ "<init>" ∧ Cond.methodLink y.cls i I.1 ∈ lw_all ∧ Cond.sameMethod I.1.cls I.1.cls I.1.name I.1.desc ∈ lw_all ∧ Cond.superclass y.cls I.1.cls ∈ lw_all))
  | .invokevirtual v => nx = pc + 3 ∧ ∃ i x n, decode cc pc = .ok (.invokevirtual i, 3) ∧ zpn x.desc n ∧ zVN v = n + 1 ∧ ∀ e, e ∈ zlk [] v zVT_t → ∃ I, (e.2, I) ∈ ML ∧ zNA e.2 = n + 1 ∧ zVev y.cls i x e.1 I
  | .invokeinterface v _ => nx = pc + 5 ∧ ∃ i ct x n, decode cc pc = .ok (.invokeinterface i ct, 5) ∧ zpn x.desc n ∧ zVN v = n + 1 ∧ (x.cls ≠ "java/lang/invoke/MethodHandle" ∧ x.cls ≠ "java/lang/invoke/VarHandle") ∧ ∀ e, e ∈ zlk [] v zVT_t → ∃ I, (e.2, I) ∈ ML ∧ zNA e.2 = n + 1 ∧ I.2.2.2 = [] ∧ (zcn (e.1 - 100), x, I.1) ∈ zFws ∧ Cond.methodLink y.cls i x ∈ lw_all ∧ Cond.selects (zcn (e.1 - 100)) x I.1 ∈ lw_all ∧ Cond.instanceMethod I.1 ∈ lw_all
  | _ => True
def zF (k lv : Nat) : Nat := zRK k + lv
/-- one run of one method -/
def zCx (ML : List (Nat × zIs)) (SR : List (String × Nat × String × Nat)) (p : Program) (l : Launch) (R : Room) (s : State) (m : MethodId) (args : Array Value) (meth : Method) (c : Code) (D : va_G) (A : Nat → Prop) (ρs : Nat → Value) (hc h0 h1 : MH) (k lv : Nat) (y : MethodName) (cc : ByteArray) (ret : Option FieldType) (hh : List (Nat × Nat × Nat × Nat)) : Prop :=
  p.tables.exec = Jvm.exec ∧ l.stackTraces = false ∧ c.code = cc ∧ c.maxLocals = zML k ∧ s.vm.findClass y.cls = some m.cls ∧ meth.name = y.name ∧ meth.sig.returnType = ret ∧ meth.locks = false ∧ c.exceptionTable.toList = tableOf hh ∧ (∀ w, w ∈ lw_all → w.before args s = true) ∧ zTab D s ∧ zCon SR A ρs hc s ∧ 55 ≤ hn h0 ∧ (∀ q, s.heap.size ≤ q → A q) ∧ (8 ≤ zF k lv ∧ zF k lv ≤ R.frames ∧ 40 * zF k lv ≤ R.locals) ∧ (hn h1 - hn h0 ≤ R.cells ∧ hs h1 - hs h0 ≤ R.slots ∧ hn h0 ≤ hn h1 ∧ hs h0 ≤ hs h1)
