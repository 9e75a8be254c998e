/-! java/util/AbstractCollection -/
set_option maxRecDepth 100000
def RJ0 : String := "java/util/AbstractCollection"
abbrev cJ0_init : ByteArray := prog_41_method_1_code
def yJ0_init : MethodName := ⟨RJ0, "<init>", "()V"⟩
theorem dJ0_init_0 : decode cJ0_init 0 = .ok (.aload_n 0, 1) := by decide +kernel
theorem dJ0_init_1 : decode cJ0_init 1 = .ok (.invokespecial 1, 3) := by decide +kernel
theorem dJ0_init_4 : decode cJ0_init 4 = .ok (.return_, 1) := by decide +kernel
theorem q118 : (Jvm.Cond.initialized "java/util/AbstractCollection") ∈ lw_all := lw_g (lw_at lw_m1 3 rfl) rfl
theorem q194 : (Jvm.Cond.instanceMethod ({ cls := "java/util/AbstractCollection", name := "<init>", desc := "()V" } : Jvm.MethodName)) ∈ lw_all := lw_g (lw_at lw_m1 79 rfl) rfl
theorem q195 : (Jvm.Cond.code ({ cls := "java/util/AbstractCollection", name := "<init>", desc := "()V" } : Jvm.MethodName) prog_41_method_1_code (1 : Nat) (Option.none : Option Jvm.ClassFile.FieldType)) ∈ lw_all := lw_g (lw_at lw_m1 80 rfl) rfl
theorem q196 : (Jvm.Cond.methodLink "java/util/AbstractCollection" (1 : Nat) ({ cls := "java/lang/Object", name := "<init>", desc := "()V" } : Jvm.MethodName)) ∈ lw_all := lw_g (lw_at lw_m1 81 rfl) rfl
theorem q1326 : (Jvm.Cond.declares ({ cls := "java/util/AbstractCollection", name := "size", desc := "()I" } : Jvm.MethodName)) ∈ lw_tbl := lw_at lw_m6 11 rfl
/-! java/util/AbstractList -/
set_option maxRecDepth 100000
def RJ1 : String := "java/util/AbstractList"
abbrev cJ1_init : ByteArray := prog_42_method_1_code
def yJ1_init : MethodName := ⟨RJ1, "<init>", "()V"⟩
def dkwJ1_init_0 : List UInt8 := [42, 183, 0, 1, 42, 3, 181, 0, 7, 177]
abbrev dktJ1_init_0 : List UInt8 := dkwJ1_init_0 ++ []
theorem dksJ1_init_0 : cJ1_init.data.toList.drop 0 = dktJ1_init_0 := by decide +kernel
theorem dJ1_init_0 : decode cJ1_init 0 = .ok (.aload_n 0, 1) := dk_42 (dk_at dksJ1_init_0 0 rfl rfl)
theorem dJ1_init_1 : decode cJ1_init 1 = .ok (.invokespecial 1, 3) := dk_183 0 1 (dk_at dksJ1_init_0 1 rfl rfl)
theorem dJ1_init_4 : decode cJ1_init 4 = .ok (.aload_n 0, 1) := dk_42 (dk_at dksJ1_init_0 4 rfl rfl)
theorem dJ1_init_5 : decode cJ1_init 5 = .ok (.iconst 0, 1) := dk_3 (dk_at dksJ1_init_0 5 rfl rfl)
theorem dJ1_init_6 : decode cJ1_init 6 = .ok (.putfield 7, 3) := dk_181 0 7 (dk_at dksJ1_init_0 6 rfl rfl)
theorem dJ1_init_9 : decode cJ1_init 9 = .ok (.return_, 1) := dk_177 (dk_at dksJ1_init_0 9 rfl rfl)
abbrev cJ1_listIterator : ByteArray := prog_42_method_12_code
def yJ1_listIterator : MethodName := ⟨RJ1, "listIterator", "()Ljava/util/ListIterator;"⟩
def dkwJ1_listIterator_0 : List UInt8 := [42, 3, 182, 0, 47, 176]
abbrev dktJ1_listIterator_0 : List UInt8 := dkwJ1_listIterator_0 ++ []
theorem dksJ1_listIterator_0 : cJ1_listIterator.data.toList.drop 0 = dktJ1_listIterator_0 := by decide +kernel
theorem dJ1_listIterator_0 : decode cJ1_listIterator 0 = .ok (.aload_n 0, 1) := dk_42 (dk_at dksJ1_listIterator_0 0 rfl rfl)
theorem dJ1_listIterator_1 : decode cJ1_listIterator 1 = .ok (.iconst 0, 1) := dk_3 (dk_at dksJ1_listIterator_0 1 rfl rfl)
theorem dJ1_listIterator_2 : decode cJ1_listIterator 2 = .ok (.invokevirtual 47, 3) := dk_182 0 47 (dk_at dksJ1_listIterator_0 2 rfl rfl)
theorem dJ1_listIterator_5 : decode cJ1_listIterator 5 = .ok (.areturn, 1) := dk_176 (dk_at dksJ1_listIterator_0 5 rfl rfl)
theorem q119 : (Jvm.Cond.initialized "java/util/AbstractList") ∈ lw_all := lw_g (lw_at lw_m1 4 rfl) rfl
theorem q191 : (Jvm.Cond.instanceMethod ({ cls := "java/util/AbstractList", name := "<init>", desc := "()V" } : Jvm.MethodName)) ∈ lw_all := lw_g (lw_at lw_m1 76 rfl) rfl
theorem q192 : (Jvm.Cond.code ({ cls := "java/util/AbstractList", name := "<init>", desc := "()V" } : Jvm.MethodName) prog_42_method_1_code (1 : Nat) (Option.none : Option Jvm.ClassFile.FieldType)) ∈ lw_all := lw_g (lw_at lw_m1 77 rfl) rfl
theorem q193 : (Jvm.Cond.methodLink "java/util/AbstractList" (1 : Nat) ({ cls := "java/util/AbstractCollection", name := "<init>", desc := "()V" } : Jvm.MethodName)) ∈ lw_all := lw_g (lw_at lw_m1 78 rfl) rfl
theorem q201 : (Jvm.Cond.fieldLink "java/util/AbstractList" (7 : Nat) "java/util/AbstractList" "modCount" "I") ∈ lw_all := lw_g (lw_at lw_m1 86 rfl) rfl
theorem q213 : (Jvm.Cond.soleField "java/util/AbstractList" "modCount") ∈ lw_all := lw_g (lw_at lw_m1 98 rfl) rfl
theorem q1243 : (Jvm.Cond.declares ({ cls := "java/util/AbstractList", name := "listIterator", desc := "()Ljava/util/ListIterator;" } : Jvm.MethodName)) ∈ lw_tbl := lw_at lw_m5 168 rfl
theorem q1245 : (Jvm.Cond.instanceMethod ({ cls := "java/util/AbstractList", name := "listIterator", desc := "()Ljava/util/ListIterator;" } : Jvm.MethodName)) ∈ lw_all := lw_g (lw_at lw_m5 170 rfl) rfl
theorem q1246 : (Jvm.Cond.code ({ cls := "java/util/AbstractList", name := "listIterator", desc := "()Ljava/util/ListIterator;" } : Jvm.MethodName) prog_42_method_12_code (1 : Nat) (Option.some (Jvm.ClassFile.FieldType.object "java/util/ListIterator"))) ∈ lw_all := lw_g (lw_at lw_m5 171 rfl) rfl
theorem q1247 : (Jvm.Cond.methodLink "java/util/AbstractList" (47 : Nat) ({ cls := "java/util/AbstractList", name := "listIterator", desc := "(I)Ljava/util/ListIterator;" } : Jvm.MethodName)) ∈ lw_all := lw_g (lw_at lw_m5 172 rfl) rfl
theorem q1248 : (Jvm.Cond.instanceMethod ({ cls := "java/util/AbstractList", name := "listIterator", desc := "(I)Ljava/util/ListIterator;" } : Jvm.MethodName)) ∈ lw_all := lw_g (lw_at lw_m5 173 rfl) rfl
theorem q1249 : (Jvm.Cond.sameMethod "java/util/AbstractList" "java/util/AbstractList" "listIterator" "(I)Ljava/util/ListIterator;") ∈ lw_all := lw_g (lw_at lw_m5 174 rfl) rfl
theorem q1313 : (Jvm.Cond.declares ({ cls := "java/util/AbstractList", name := "listIterator", desc := "(I)Ljava/util/ListIterator;" } : Jvm.MethodName)) ∈ lw_tbl := lw_at lw_m5 238 rfl
theorem q1325 : (Jvm.Cond.sameMethod "java/util/AbstractList" "java/util/AbstractCollection" "size" "()I") ∈ lw_all := lw_g (lw_at lw_m6 10 rfl) rfl
theorem q1349 : (Jvm.Cond.declares ({ cls := "java/util/AbstractList", name := "get", desc := "(I)Ljava/lang/Object;" } : Jvm.MethodName)) ∈ lw_tbl := lw_at lw_m6 34 rfl
theorem q1350 : (Jvm.Cond.sameMethod "java/util/AbstractList" "java/util/AbstractList" "get" "(I)Ljava/lang/Object;") ∈ lw_all := lw_g (lw_at lw_m6 35 rfl) rfl
theorem q1770 : (Jvm.Cond.instanceMethod ({ cls := "java/util/AbstractList", name := "remove", desc := "(I)Ljava/lang/Object;" } : Jvm.MethodName)) ∈ lw_all := lw_g (lw_at lw_m7 215 rfl) rfl
theorem q1771 : (Jvm.Cond.sameMethod "java/util/AbstractList" "java/util/AbstractList" "remove" "(I)Ljava/lang/Object;") ∈ lw_all := lw_g (lw_at lw_m7 216 rfl) rfl
theorem q1779 : (Jvm.Cond.declares ({ cls := "java/util/AbstractList", name := "remove", desc := "(I)Ljava/lang/Object;" } : Jvm.MethodName)) ∈ lw_tbl := lw_at lw_m7 224 rfl
/-! java/util/ImmutableCollections$List12 -/
set_option maxRecDepth 100000
def RJ10 : String := "java/util/ImmutableCollections$List12"
def TJ10 : u_T := fun k => match k with
  | 0 => ("java/util/ImmutableCollections$List12", "e0", "Ljava/lang/Object;", true)
  | _ => ("java/util/ImmutableCollections$List12", "e1", "Ljava/lang/Object;", true)
def tyJ10 : Nat → FieldType := fun k => match k with
  | 0 => .object "java/lang/Object"
  | _ => .object "java/lang/Object"
abbrev wsJ100 : List Cond := u_ws RJ10 TJ10 2
theorem nmJ10 : ∀ a, a < 2 → ∀ b, b < 2 → a ≠ b → (TJ10 a).2.1 ≠ (TJ10 b).2.1 := by decide +kernel
theorem tyJ10_ok : ∀ k, k < 2 → parseFieldDescriptor (TJ10 k).2.2.1 = some (tyJ10 k) := by decide +kernel
abbrev cJ10_init : ByteArray := prog_56_method_1_code
def yJ10_init : MethodName := ⟨RJ10, "<init>", "(Ljava/lang/Object;)V"⟩
def dkwJ10_init_0 : List UInt8 := [42, 183, 0, 1, 42, 43, 184, 0, 7, 181, 0, 13, 42, 178, 0, 19, 181, 0, 24, 177]
abbrev dktJ10_init_0 : List UInt8 := dkwJ10_init_0 ++ []
theorem dksJ10_init_0 : cJ10_init.data.toList.drop 0 = dktJ10_init_0 := by decide +kernel
theorem dJ10_init_0 : decode cJ10_init 0 = .ok (.aload_n 0, 1) := dk_42 (dk_at dksJ10_init_0 0 rfl rfl)
theorem dJ10_init_1 : decode cJ10_init 1 = .ok (.invokespecial 1, 3) := dk_183 0 1 (dk_at dksJ10_init_0 1 rfl rfl)
theorem dJ10_init_4 : decode cJ10_init 4 = .ok (.aload_n 0, 1) := dk_42 (dk_at dksJ10_init_0 4 rfl rfl)
theorem dJ10_init_5 : decode cJ10_init 5 = .ok (.aload_n 1, 1) := dk_43 (dk_at dksJ10_init_0 5 rfl rfl)
theorem dJ10_init_6 : decode cJ10_init 6 = .ok (.invokestatic 7, 3) := dk_184 0 7 (dk_at dksJ10_init_0 6 rfl rfl)
theorem dJ10_init_9 : decode cJ10_init 9 = .ok (.putfield 13, 3) := dk_181 0 13 (dk_at dksJ10_init_0 9 rfl rfl)
theorem dJ10_init_12 : decode cJ10_init 12 = .ok (.aload_n 0, 1) := dk_42 (dk_at dksJ10_init_0 12 rfl rfl)
theorem dJ10_init_13 : decode cJ10_init 13 = .ok (.getstatic 19, 3) := dk_178 0 19 (dk_at dksJ10_init_0 13 rfl rfl)
theorem dJ10_init_16 : decode cJ10_init 16 = .ok (.putfield 24, 3) := dk_181 0 24 (dk_at dksJ10_init_0 16 rfl rfl)
theorem dJ10_init_19 : decode cJ10_init 19 = .ok (.return_, 1) := dk_177 (dk_at dksJ10_init_0 19 rfl rfl)
abbrev cJ10_init_2 : ByteArray := prog_56_method_2_code
def yJ10_init_2 : MethodName := ⟨RJ10, "<init>", "(Ljava/lang/Object;Ljava/lang/Object;)V"⟩
def dkwJ10_init_2_0 : List UInt8 := [42, 183, 0, 1, 42, 43, 184, 0, 7, 181, 0, 13, 42, 44, 184, 0, 7, 181, 0, 24, 177]
abbrev dktJ10_init_2_0 : List UInt8 := dkwJ10_init_2_0 ++ []
theorem dksJ10_init_2_0 : cJ10_init_2.data.toList.drop 0 = dktJ10_init_2_0 := by decide +kernel
theorem dJ10_init_2_0 : decode cJ10_init_2 0 = .ok (.aload_n 0, 1) := dk_42 (dk_at dksJ10_init_2_0 0 rfl rfl)
theorem dJ10_init_2_1 : decode cJ10_init_2 1 = .ok (.invokespecial 1, 3) := dk_183 0 1 (dk_at dksJ10_init_2_0 1 rfl rfl)
theorem dJ10_init_2_4 : decode cJ10_init_2 4 = .ok (.aload_n 0, 1) := dk_42 (dk_at dksJ10_init_2_0 4 rfl rfl)
theorem dJ10_init_2_5 : decode cJ10_init_2 5 = .ok (.aload_n 1, 1) := dk_43 (dk_at dksJ10_init_2_0 5 rfl rfl)
theorem dJ10_init_2_6 : decode cJ10_init_2 6 = .ok (.invokestatic 7, 3) := dk_184 0 7 (dk_at dksJ10_init_2_0 6 rfl rfl)
theorem dJ10_init_2_9 : decode cJ10_init_2 9 = .ok (.putfield 13, 3) := dk_181 0 13 (dk_at dksJ10_init_2_0 9 rfl rfl)
theorem dJ10_init_2_12 : decode cJ10_init_2 12 = .ok (.aload_n 0, 1) := dk_42 (dk_at dksJ10_init_2_0 12 rfl rfl)
theorem dJ10_init_2_13 : decode cJ10_init_2 13 = .ok (.aload_n 2, 1) := dk_44 (dk_at dksJ10_init_2_0 13 rfl rfl)
theorem dJ10_init_2_14 : decode cJ10_init_2 14 = .ok (.invokestatic 7, 3) := dk_184 0 7 (dk_at dksJ10_init_2_0 14 rfl rfl)
theorem dJ10_init_2_17 : decode cJ10_init_2 17 = .ok (.putfield 24, 3) := dk_181 0 24 (dk_at dksJ10_init_2_0 17 rfl rfl)
theorem dJ10_init_2_20 : decode cJ10_init_2 20 = .ok (.return_, 1) := dk_177 (dk_at dksJ10_init_2_0 20 rfl rfl)
abbrev cJ10_indexOf : ByteArray := prog_56_method_6_code
def yJ10_indexOf : MethodName := ⟨RJ10, "indexOf", "(Ljava/lang/Object;)I"⟩
def dkwJ10_indexOf_1 : List UInt8 := [178, 0, 19, 165, 0, 16, 43, 42, 180, 0, 24, 182, 0, 31, 153, 0, 5, 4, 172, 2, 172]
abbrev dktJ10_indexOf_1 : List UInt8 := dkwJ10_indexOf_1 ++ []
def dkwJ10_indexOf_0 : List UInt8 := [43, 184, 0, 7, 87, 43, 42, 180, 0, 13, 182, 0, 31, 153, 0, 5, 3, 172, 42, 180, 0, 24]
abbrev dktJ10_indexOf_0 : List UInt8 := dkwJ10_indexOf_0 ++ dktJ10_indexOf_1
theorem dksJ10_indexOf_0 : cJ10_indexOf.data.toList.drop 0 = dktJ10_indexOf_0 := by decide +kernel
theorem dksJ10_indexOf_1 : cJ10_indexOf.data.toList.drop 22 = dktJ10_indexOf_1 := dk_seg dksJ10_indexOf_0 22 rfl rfl
theorem dJ10_indexOf_0 : decode cJ10_indexOf 0 = .ok (.aload_n 1, 1) := dk_43 (dk_at dksJ10_indexOf_0 0 rfl rfl)
theorem dJ10_indexOf_1 : decode cJ10_indexOf 1 = .ok (.invokestatic 7, 3) := dk_184 0 7 (dk_at dksJ10_indexOf_0 1 rfl rfl)
theorem dJ10_indexOf_4 : decode cJ10_indexOf 4 = .ok (.pop, 1) := dk_87 (dk_at dksJ10_indexOf_0 4 rfl rfl)
theorem dJ10_indexOf_5 : decode cJ10_indexOf 5 = .ok (.aload_n 1, 1) := dk_43 (dk_at dksJ10_indexOf_0 5 rfl rfl)
theorem dJ10_indexOf_6 : decode cJ10_indexOf 6 = .ok (.aload_n 0, 1) := dk_42 (dk_at dksJ10_indexOf_0 6 rfl rfl)
theorem dJ10_indexOf_7 : decode cJ10_indexOf 7 = .ok (.getfield 13, 3) := dk_180 0 13 (dk_at dksJ10_indexOf_0 7 rfl rfl)
theorem dJ10_indexOf_10 : decode cJ10_indexOf 10 = .ok (.invokevirtual 31, 3) := dk_182 0 31 (dk_at dksJ10_indexOf_0 10 rfl rfl)
theorem dJ10_indexOf_13 : decode cJ10_indexOf 13 = .ok (.ifCond .eq 5, 3) := dk_153 0 5 (dk_at dksJ10_indexOf_0 13 rfl rfl)
theorem dJ10_indexOf_16 : decode cJ10_indexOf 16 = .ok (.iconst 0, 1) := dk_3 (dk_at dksJ10_indexOf_0 16 rfl rfl)
theorem dJ10_indexOf_17 : decode cJ10_indexOf 17 = .ok (.ireturn, 1) := dk_172 (dk_at dksJ10_indexOf_0 17 rfl rfl)
theorem dJ10_indexOf_18 : decode cJ10_indexOf 18 = .ok (.aload_n 0, 1) := dk_42 (dk_at dksJ10_indexOf_0 18 rfl rfl)
theorem dJ10_indexOf_19 : decode cJ10_indexOf 19 = .ok (.getfield 24, 3) := dk_180 0 24 (dk_at dksJ10_indexOf_0 19 rfl rfl)
theorem dJ10_indexOf_22 : decode cJ10_indexOf 22 = .ok (.getstatic 19, 3) := dk_178 0 19 (dk_at dksJ10_indexOf_1 0 rfl rfl)
theorem dJ10_indexOf_25 : decode cJ10_indexOf 25 = .ok (.if_acmp .eq 16, 3) := dk_165 0 16 (dk_at dksJ10_indexOf_1 3 rfl rfl)
theorem dJ10_indexOf_28 : decode cJ10_indexOf 28 = .ok (.aload_n 1, 1) := dk_43 (dk_at dksJ10_indexOf_1 6 rfl rfl)
theorem dJ10_indexOf_29 : decode cJ10_indexOf 29 = .ok (.aload_n 0, 1) := dk_42 (dk_at dksJ10_indexOf_1 7 rfl rfl)
theorem dJ10_indexOf_30 : decode cJ10_indexOf 30 = .ok (.getfield 24, 3) := dk_180 0 24 (dk_at dksJ10_indexOf_1 8 rfl rfl)
theorem dJ10_indexOf_33 : decode cJ10_indexOf 33 = .ok (.invokevirtual 31, 3) := dk_182 0 31 (dk_at dksJ10_indexOf_1 11 rfl rfl)
theorem dJ10_indexOf_36 : decode cJ10_indexOf 36 = .ok (.ifCond .eq 5, 3) := dk_153 0 5 (dk_at dksJ10_indexOf_1 14 rfl rfl)
theorem dJ10_indexOf_39 : decode cJ10_indexOf 39 = .ok (.iconst 1, 1) := dk_4 (dk_at dksJ10_indexOf_1 17 rfl rfl)
theorem dJ10_indexOf_40 : decode cJ10_indexOf 40 = .ok (.ireturn, 1) := dk_172 (dk_at dksJ10_indexOf_1 18 rfl rfl)
theorem dJ10_indexOf_41 : decode cJ10_indexOf 41 = .ok (.iconst (-1), 1) := dk_2 (dk_at dksJ10_indexOf_1 19 rfl rfl)
theorem dJ10_indexOf_42 : decode cJ10_indexOf 42 = .ok (.ireturn, 1) := dk_172 (dk_at dksJ10_indexOf_1 20 rfl rfl)
theorem q131 : (Jvm.Cond.initialized "java/util/ImmutableCollections$List12") ∈ lw_all := lw_g (lw_at lw_m1 16 rfl) rfl
theorem q687 : (Jvm.Cond.selects "java/util/ImmutableCollections$List12" ({ cls := "java/lang/Object", name := "getClass", desc := "()Ljava/lang/Class;" } : Jvm.MethodName) ({ cls := "java/lang/Object", name := "getClass", desc := "()Ljava/lang/Class;" } : Jvm.MethodName)) ∈ lw_all := lw_g (lw_at lw_m3 92 rfl) rfl
theorem q701 : (Jvm.Cond.instantiable "java/util/ImmutableCollections$List12" (2 : Nat)) ∈ lw_all := lw_g (lw_at lw_m3 106 rfl) rfl
theorem q703 : (Jvm.Cond.instanceMethod ({ cls := "java/util/ImmutableCollections$List12", name := "<init>", desc := "(Ljava/lang/Object;)V" } : Jvm.MethodName)) ∈ lw_all := lw_g (lw_at lw_m3 108 rfl) rfl
theorem q704 : (Jvm.Cond.code ({ cls := "java/util/ImmutableCollections$List12", name := "<init>", desc := "(Ljava/lang/Object;)V" } : Jvm.MethodName) prog_56_method_1_code (2 : Nat) (Option.none : Option Jvm.ClassFile.FieldType)) ∈ lw_all := lw_g (lw_at lw_m3 109 rfl) rfl
theorem q705 : (Jvm.Cond.methodLink "java/util/ImmutableCollections$List12" (1 : Nat) ({ cls := "java/util/ImmutableCollections$AbstractImmutableList", name := "<init>", desc := "()V" } : Jvm.MethodName)) ∈ lw_all := lw_g (lw_at lw_m3 110 rfl) rfl
theorem q712 : (Jvm.Cond.methodLink "java/util/ImmutableCollections$List12" (7 : Nat) ({ cls := "java/util/Objects", name := "requireNonNull", desc := "(Ljava/lang/Object;)Ljava/lang/Object;" } : Jvm.MethodName)) ∈ lw_all := lw_g (lw_at lw_m3 117 rfl) rfl
theorem q713 : (Jvm.Cond.fieldLinkNest "java/util/ImmutableCollections$List12" (19 : Nat) "java/util/ImmutableCollections" "EMPTY" "Ljava/lang/Object;" "java/util/ImmutableCollections") ∈ lw_tbl := lw_at lw_m3 118 rfl
theorem q715 : (Jvm.Cond.fieldLink "java/util/ImmutableCollections$List12" (13 : Nat) "java/util/ImmutableCollections$List12" "e0" "Ljava/lang/Object;") ∈ lw_all := lw_g (lw_at lw_m3 120 rfl) rfl
theorem q716 : (Jvm.Cond.fieldLink "java/util/ImmutableCollections$List12" (24 : Nat) "java/util/ImmutableCollections$List12" "e1" "Ljava/lang/Object;") ∈ lw_all := lw_g (lw_at lw_m3 121 rfl) rfl
theorem q717 : (Jvm.Cond.laysFinal "java/util/ImmutableCollections$List12" "java/util/ImmutableCollections$List12" "e0" "Ljava/lang/Object;") ∈ lw_all := lw_g (lw_at lw_m3 122 rfl) rfl
theorem q718 : (Jvm.Cond.soleField "java/util/ImmutableCollections$List12" "e0") ∈ lw_all := lw_g (lw_at lw_m3 123 rfl) rfl
theorem q719 : (Jvm.Cond.laysFinal "java/util/ImmutableCollections$List12" "java/util/ImmutableCollections$List12" "e1" "Ljava/lang/Object;") ∈ lw_all := lw_g (lw_at lw_m3 124 rfl) rfl
theorem q720 : (Jvm.Cond.soleField "java/util/ImmutableCollections$List12" "e1") ∈ lw_all := lw_g (lw_at lw_m3 125 rfl) rfl
theorem q721 : (Jvm.Cond.superclass "java/util/ImmutableCollections$List12" "java/util/ImmutableCollections$AbstractImmutableList") ∈ lw_all := lw_g (lw_at lw_m3 126 rfl) rfl
theorem q723 : (Jvm.Cond.instanceMethod ({ cls := "java/util/ImmutableCollections$List12", name := "<init>", desc := "(Ljava/lang/Object;Ljava/lang/Object;)V" } : Jvm.MethodName)) ∈ lw_all := lw_g (lw_at lw_m3 128 rfl) rfl
theorem q724 : (Jvm.Cond.code ({ cls := "java/util/ImmutableCollections$List12", name := "<init>", desc := "(Ljava/lang/Object;Ljava/lang/Object;)V" } : Jvm.MethodName) prog_56_method_2_code (3 : Nat) (Option.none : Option Jvm.ClassFile.FieldType)) ∈ lw_all := lw_g (lw_at lw_m3 129 rfl) rfl
theorem q1168 : (Jvm.Cond.castable "java/util/ImmutableCollections$List12" "java/util/List") ∈ lw_tbl := lw_at lw_m5 93 rfl
theorem q1169 : (Jvm.Cond.selects "java/util/ImmutableCollections$List12" ({ cls := "java/util/List", name := "contains", desc := "(Ljava/lang/Object;)Z" } : Jvm.MethodName) ({ cls := "java/util/ImmutableCollections$AbstractImmutableList", name := "contains", desc := "(Ljava/lang/Object;)Z" } : Jvm.MethodName)) ∈ lw_all := lw_g (lw_at lw_m5 94 rfl) rfl
theorem q1170 : (Jvm.Cond.unhidden "java/util/ImmutableCollections$List12" "contains" "(Ljava/lang/Object;)Z") ∈ lw_tbl := lw_at lw_m5 95 rfl
theorem q1176 : (Jvm.Cond.selects "java/util/ImmutableCollections$List12" ({ cls := "java/util/List", name := "indexOf", desc := "(Ljava/lang/Object;)I" } : Jvm.MethodName) ({ cls := "java/util/ImmutableCollections$List12", name := "indexOf", desc := "(Ljava/lang/Object;)I" } : Jvm.MethodName)) ∈ lw_all := lw_g (lw_at lw_m5 101 rfl) rfl
theorem q1177 : (Jvm.Cond.instanceMethod ({ cls := "java/util/ImmutableCollections$List12", name := "indexOf", desc := "(Ljava/lang/Object;)I" } : Jvm.MethodName)) ∈ lw_all := lw_g (lw_at lw_m5 102 rfl) rfl
theorem q1178 : (Jvm.Cond.code ({ cls := "java/util/ImmutableCollections$List12", name := "indexOf", desc := "(Ljava/lang/Object;)I" } : Jvm.MethodName) prog_56_method_6_code (2 : Nat) (Option.some Jvm.ClassFile.FieldType.int)) ∈ lw_all := lw_g (lw_at lw_m5 103 rfl) rfl
theorem q1180 : (Jvm.Cond.methodLink "java/util/ImmutableCollections$List12" (31 : Nat) ({ cls := "java/lang/Object", name := "equals", desc := "(Ljava/lang/Object;)Z" } : Jvm.MethodName)) ∈ lw_all := lw_g (lw_at lw_m5 105 rfl) rfl
theorem q2861 : (Jvm.Cond.castable "java/util/ImmutableCollections$List12" "java/lang/Object") ∈ lw_tbl := lw_at lw_m12 106 rfl
theorem in_J10 : ∀ w ∈ wsJ100, w ∈ lw_all := lw_in wsJ100 [717, 719] (by decide +kernel) (by decide +kernel)
/-! java/util/ImmutableCollections$ListN -/
set_option maxRecDepth 100000
def RJ11 : String := "java/util/ImmutableCollections$ListN"
def TJ11 : u_T := fun k => match k with
  | 0 => ("java/util/ImmutableCollections$ListN", "elements", "[Ljava/lang/Object;", true)
  | _ => ("java/util/ImmutableCollections$ListN", "allowNulls", "Z", true)
def tyJ11 : Nat → FieldType := fun k => match k with
  | 0 => .array (.object "java/lang/Object")
  | _ => .boolean
abbrev wsJ110 : List Cond := u_ws RJ11 TJ11 2
theorem nmJ11 : ∀ a, a < 2 → ∀ b, b < 2 → a ≠ b → (TJ11 a).2.1 ≠ (TJ11 b).2.1 := by decide +kernel
theorem tyJ11_ok : ∀ k, k < 2 → parseFieldDescriptor (TJ11 k).2.2.1 = some (tyJ11 k) := by decide +kernel
abbrev cJ11_init : ByteArray := prog_57_method_1_code
def yJ11_init : MethodName := ⟨RJ11, "<init>", "([Ljava/lang/Object;Z)V"⟩
def dkwJ11_init_0 : List UInt8 := [42, 183, 0, 1, 42, 43, 181, 0, 7, 42, 28, 181, 0, 13, 177]
abbrev dktJ11_init_0 : List UInt8 := dkwJ11_init_0 ++ []
theorem dksJ11_init_0 : cJ11_init.data.toList.drop 0 = dktJ11_init_0 := by decide +kernel
theorem dJ11_init_0 : decode cJ11_init 0 = .ok (.aload_n 0, 1) := dk_42 (dk_at dksJ11_init_0 0 rfl rfl)
theorem dJ11_init_1 : decode cJ11_init 1 = .ok (.invokespecial 1, 3) := dk_183 0 1 (dk_at dksJ11_init_0 1 rfl rfl)
theorem dJ11_init_4 : decode cJ11_init 4 = .ok (.aload_n 0, 1) := dk_42 (dk_at dksJ11_init_0 4 rfl rfl)
theorem dJ11_init_5 : decode cJ11_init 5 = .ok (.aload_n 1, 1) := dk_43 (dk_at dksJ11_init_0 5 rfl rfl)
theorem dJ11_init_6 : decode cJ11_init 6 = .ok (.putfield 7, 3) := dk_181 0 7 (dk_at dksJ11_init_0 6 rfl rfl)
theorem dJ11_init_9 : decode cJ11_init 9 = .ok (.aload_n 0, 1) := dk_42 (dk_at dksJ11_init_0 9 rfl rfl)
theorem dJ11_init_10 : decode cJ11_init 10 = .ok (.iload_n 2, 1) := dk_28 (dk_at dksJ11_init_0 10 rfl rfl)
theorem dJ11_init_11 : decode cJ11_init 11 = .ok (.putfield 13, 3) := dk_181 0 13 (dk_at dksJ11_init_0 11 rfl rfl)
theorem dJ11_init_14 : decode cJ11_init 14 = .ok (.return_, 1) := dk_177 (dk_at dksJ11_init_0 14 rfl rfl)
abbrev cJ11_indexOf : ByteArray := prog_57_method_9_code
def yJ11_indexOf : MethodName := ⟨RJ11, "indexOf", "(Ljava/lang/Object;)I"⟩
def dkwJ11_indexOf_2 : List UInt8 := [167, 255, 235, 2, 172]
abbrev dktJ11_indexOf_2 : List UInt8 := dkwJ11_indexOf_2 ++ []
def dkwJ11_indexOf_1 : List UInt8 := [3, 62, 29, 44, 190, 162, 0, 21, 43, 44, 29, 50, 184, 0, 53, 153, 0, 5, 29, 172, 132, 3, 1]
abbrev dktJ11_indexOf_1 : List UInt8 := dkwJ11_indexOf_1 ++ dktJ11_indexOf_2
def dkwJ11_indexOf_0 : List UInt8 := [42, 180, 0, 13, 154, 0, 15, 43, 199, 0, 11, 187, 0, 50, 89, 183, 0, 52, 191, 42, 180, 0, 7, 77]
abbrev dktJ11_indexOf_0 : List UInt8 := dkwJ11_indexOf_0 ++ dktJ11_indexOf_1
theorem dksJ11_indexOf_0 : cJ11_indexOf.data.toList.drop 0 = dktJ11_indexOf_0 := by decide +kernel
theorem dksJ11_indexOf_1 : cJ11_indexOf.data.toList.drop 24 = dktJ11_indexOf_1 := dk_seg dksJ11_indexOf_0 24 rfl rfl
theorem dksJ11_indexOf_2 : cJ11_indexOf.data.toList.drop 47 = dktJ11_indexOf_2 := dk_seg dksJ11_indexOf_1 23 rfl rfl
theorem dJ11_indexOf_0 : decode cJ11_indexOf 0 = .ok (.aload_n 0, 1) := dk_42 (dk_at dksJ11_indexOf_0 0 rfl rfl)
theorem dJ11_indexOf_1 : decode cJ11_indexOf 1 = .ok (.getfield 13, 3) := dk_180 0 13 (dk_at dksJ11_indexOf_0 1 rfl rfl)
theorem dJ11_indexOf_4 : decode cJ11_indexOf 4 = .ok (.ifCond .ne 15, 3) := dk_154 0 15 (dk_at dksJ11_indexOf_0 4 rfl rfl)
theorem dJ11_indexOf_7 : decode cJ11_indexOf 7 = .ok (.aload_n 1, 1) := dk_43 (dk_at dksJ11_indexOf_0 7 rfl rfl)
theorem dJ11_indexOf_8 : decode cJ11_indexOf 8 = .ok (.ifnonnull 11, 3) := dk_199 0 11 (dk_at dksJ11_indexOf_0 8 rfl rfl)
theorem dJ11_indexOf_11 : decode cJ11_indexOf 11 = .ok (.new 50, 3) := dk_187 0 50 (dk_at dksJ11_indexOf_0 11 rfl rfl)
theorem dJ11_indexOf_14 : decode cJ11_indexOf 14 = .ok (.dup, 1) := dk_89 (dk_at dksJ11_indexOf_0 14 rfl rfl)
theorem dJ11_indexOf_15 : decode cJ11_indexOf 15 = .ok (.invokespecial 52, 3) := dk_183 0 52 (dk_at dksJ11_indexOf_0 15 rfl rfl)
theorem dJ11_indexOf_18 : decode cJ11_indexOf 18 = .ok (.athrow, 1) := dk_191 (dk_at dksJ11_indexOf_0 18 rfl rfl)
theorem dJ11_indexOf_19 : decode cJ11_indexOf 19 = .ok (.aload_n 0, 1) := dk_42 (dk_at dksJ11_indexOf_0 19 rfl rfl)
theorem dJ11_indexOf_20 : decode cJ11_indexOf 20 = .ok (.getfield 7, 3) := dk_180 0 7 (dk_at dksJ11_indexOf_0 20 rfl rfl)
theorem dJ11_indexOf_23 : decode cJ11_indexOf 23 = .ok (.astore_n 2, 1) := dk_77 (dk_at dksJ11_indexOf_0 23 rfl rfl)
theorem dJ11_indexOf_24 : decode cJ11_indexOf 24 = .ok (.iconst 0, 1) := dk_3 (dk_at dksJ11_indexOf_1 0 rfl rfl)
theorem dJ11_indexOf_25 : decode cJ11_indexOf 25 = .ok (.istore_n 3, 1) := dk_62 (dk_at dksJ11_indexOf_1 1 rfl rfl)
theorem dJ11_indexOf_26 : decode cJ11_indexOf 26 = .ok (.iload_n 3, 1) := dk_29 (dk_at dksJ11_indexOf_1 2 rfl rfl)
theorem dJ11_indexOf_27 : decode cJ11_indexOf 27 = .ok (.aload_n 2, 1) := dk_44 (dk_at dksJ11_indexOf_1 3 rfl rfl)
theorem dJ11_indexOf_28 : decode cJ11_indexOf 28 = .ok (.arraylength, 1) := dk_190 (dk_at dksJ11_indexOf_1 4 rfl rfl)
theorem dJ11_indexOf_29 : decode cJ11_indexOf 29 = .ok (.if_icmp .ge 21, 3) := dk_162 0 21 (dk_at dksJ11_indexOf_1 5 rfl rfl)
theorem dJ11_indexOf_32 : decode cJ11_indexOf 32 = .ok (.aload_n 1, 1) := dk_43 (dk_at dksJ11_indexOf_1 8 rfl rfl)
theorem dJ11_indexOf_33 : decode cJ11_indexOf 33 = .ok (.aload_n 2, 1) := dk_44 (dk_at dksJ11_indexOf_1 9 rfl rfl)
theorem dJ11_indexOf_34 : decode cJ11_indexOf 34 = .ok (.iload_n 3, 1) := dk_29 (dk_at dksJ11_indexOf_1 10 rfl rfl)
theorem dJ11_indexOf_35 : decode cJ11_indexOf 35 = .ok (.aaload, 1) := dk_50 (dk_at dksJ11_indexOf_1 11 rfl rfl)
theorem dJ11_indexOf_36 : decode cJ11_indexOf 36 = .ok (.invokestatic 53, 3) := dk_184 0 53 (dk_at dksJ11_indexOf_1 12 rfl rfl)
theorem dJ11_indexOf_39 : decode cJ11_indexOf 39 = .ok (.ifCond .eq 5, 3) := dk_153 0 5 (dk_at dksJ11_indexOf_1 15 rfl rfl)
theorem dJ11_indexOf_42 : decode cJ11_indexOf 42 = .ok (.iload_n 3, 1) := dk_29 (dk_at dksJ11_indexOf_1 18 rfl rfl)
theorem dJ11_indexOf_43 : decode cJ11_indexOf 43 = .ok (.ireturn, 1) := dk_172 (dk_at dksJ11_indexOf_1 19 rfl rfl)
theorem dJ11_indexOf_44 : decode cJ11_indexOf 44 = .ok (.iinc 3 1, 3) := dk_132 3 1 (dk_at dksJ11_indexOf_1 20 rfl rfl)
theorem dJ11_indexOf_47 : decode cJ11_indexOf 47 = .ok (.goto (-21), 3) := dk_167 255 235 (dk_at dksJ11_indexOf_2 0 rfl rfl)
theorem dJ11_indexOf_50 : decode cJ11_indexOf 50 = .ok (.iconst (-1), 1) := dk_2 (dk_at dksJ11_indexOf_2 3 rfl rfl)
theorem dJ11_indexOf_51 : decode cJ11_indexOf 51 = .ok (.ireturn, 1) := dk_172 (dk_at dksJ11_indexOf_2 4 rfl rfl)
theorem q132 : (Jvm.Cond.initialized "java/util/ImmutableCollections$ListN") ∈ lw_all := lw_g (lw_at lw_m1 17 rfl) rfl
theorem q688 : (Jvm.Cond.selects "java/util/ImmutableCollections$ListN" ({ cls := "java/lang/Object", name := "getClass", desc := "()Ljava/lang/Class;" } : Jvm.MethodName) ({ cls := "java/lang/Object", name := "getClass", desc := "()Ljava/lang/Class;" } : Jvm.MethodName)) ∈ lw_all := lw_g (lw_at lw_m3 93 rfl) rfl
theorem q726 : (Jvm.Cond.instantiable "java/util/ImmutableCollections$ListN" (2 : Nat)) ∈ lw_all := lw_g (lw_at lw_m3 131 rfl) rfl
theorem q728 : (Jvm.Cond.instanceMethod ({ cls := "java/util/ImmutableCollections$ListN", name := "<init>", desc := "([Ljava/lang/Object;Z)V" } : Jvm.MethodName)) ∈ lw_all := lw_g (lw_at lw_m3 133 rfl) rfl
theorem q729 : (Jvm.Cond.code ({ cls := "java/util/ImmutableCollections$ListN", name := "<init>", desc := "([Ljava/lang/Object;Z)V" } : Jvm.MethodName) prog_57_method_1_code (3 : Nat) (Option.none : Option Jvm.ClassFile.FieldType)) ∈ lw_all := lw_g (lw_at lw_m3 134 rfl) rfl
theorem q730 : (Jvm.Cond.methodLink "java/util/ImmutableCollections$ListN" (1 : Nat) ({ cls := "java/util/ImmutableCollections$AbstractImmutableList", name := "<init>", desc := "()V" } : Jvm.MethodName)) ∈ lw_all := lw_g (lw_at lw_m3 135 rfl) rfl
theorem q731 : (Jvm.Cond.fieldLink "java/util/ImmutableCollections$ListN" (7 : Nat) "java/util/ImmutableCollections$ListN" "elements" "[Ljava/lang/Object;") ∈ lw_all := lw_g (lw_at lw_m3 136 rfl) rfl
theorem q732 : (Jvm.Cond.fieldLink "java/util/ImmutableCollections$ListN" (13 : Nat) "java/util/ImmutableCollections$ListN" "allowNulls" "Z") ∈ lw_all := lw_g (lw_at lw_m3 137 rfl) rfl
theorem q733 : (Jvm.Cond.laysFinal "java/util/ImmutableCollections$ListN" "java/util/ImmutableCollections$ListN" "elements" "[Ljava/lang/Object;") ∈ lw_all := lw_g (lw_at lw_m3 138 rfl) rfl
theorem q734 : (Jvm.Cond.soleField "java/util/ImmutableCollections$ListN" "elements") ∈ lw_all := lw_g (lw_at lw_m3 139 rfl) rfl
theorem q735 : (Jvm.Cond.laysFinal "java/util/ImmutableCollections$ListN" "java/util/ImmutableCollections$ListN" "allowNulls" "Z") ∈ lw_all := lw_g (lw_at lw_m3 140 rfl) rfl
theorem q736 : (Jvm.Cond.soleField "java/util/ImmutableCollections$ListN" "allowNulls") ∈ lw_all := lw_g (lw_at lw_m3 141 rfl) rfl
theorem q737 : (Jvm.Cond.superclass "java/util/ImmutableCollections$ListN" "java/util/ImmutableCollections$AbstractImmutableList") ∈ lw_all := lw_g (lw_at lw_m3 142 rfl) rfl
theorem q1210 : (Jvm.Cond.selects "java/util/ImmutableCollections$ListN" ({ cls := "java/util/List", name := "indexOf", desc := "(Ljava/lang/Object;)I" } : Jvm.MethodName) ({ cls := "java/util/ImmutableCollections$ListN", name := "indexOf", desc := "(Ljava/lang/Object;)I" } : Jvm.MethodName)) ∈ lw_all := lw_g (lw_at lw_m5 135 rfl) rfl
theorem q1211 : (Jvm.Cond.instanceMethod ({ cls := "java/util/ImmutableCollections$ListN", name := "indexOf", desc := "(Ljava/lang/Object;)I" } : Jvm.MethodName)) ∈ lw_all := lw_g (lw_at lw_m5 136 rfl) rfl
theorem q1212 : (Jvm.Cond.code ({ cls := "java/util/ImmutableCollections$ListN", name := "indexOf", desc := "(Ljava/lang/Object;)I" } : Jvm.MethodName) prog_57_method_9_code (4 : Nat) (Option.some Jvm.ClassFile.FieldType.int)) ∈ lw_all := lw_g (lw_at lw_m5 137 rfl) rfl
theorem q1213 : (Jvm.Cond.methodLink "java/util/ImmutableCollections$ListN" (53 : Nat) ({ cls := "java/util/Objects", name := "equals", desc := "(Ljava/lang/Object;Ljava/lang/Object;)Z" } : Jvm.MethodName)) ∈ lw_all := lw_g (lw_at lw_m5 138 rfl) rfl
theorem q1217 : (Jvm.Cond.castable "java/util/ImmutableCollections$ListN" "java/util/List") ∈ lw_tbl := lw_at lw_m5 142 rfl
theorem q1218 : (Jvm.Cond.selects "java/util/ImmutableCollections$ListN" ({ cls := "java/util/List", name := "contains", desc := "(Ljava/lang/Object;)Z" } : Jvm.MethodName) ({ cls := "java/util/ImmutableCollections$AbstractImmutableList", name := "contains", desc := "(Ljava/lang/Object;)Z" } : Jvm.MethodName)) ∈ lw_all := lw_g (lw_at lw_m5 143 rfl) rfl
theorem q1219 : (Jvm.Cond.unhidden "java/util/ImmutableCollections$ListN" "contains" "(Ljava/lang/Object;)Z") ∈ lw_tbl := lw_at lw_m5 144 rfl
theorem q2860 : (Jvm.Cond.castable "java/util/ImmutableCollections$ListN" "java/lang/Object") ∈ lw_tbl := lw_at lw_m12 105 rfl
theorem in_J11 : ∀ w ∈ wsJ110, w ∈ lw_all := lw_in wsJ110 [733, 735] (by decide +kernel) (by decide +kernel)
/-! java/lang/AbstractStringBuilder -/
set_option maxRecDepth 100000
def RJ12 : String := "java/lang/AbstractStringBuilder"
abbrev cJ12_init : ByteArray := prog_15_method_2_code
def yJ12_init : MethodName := ⟨RJ12, "<init>", "(I)V"⟩
def dkwJ12_init_1 : List UInt8 := [167, 0, 16, 42, 27, 184, 0, 26, 181, 0, 15, 42, 4, 181, 0, 22, 177]
abbrev dktJ12_init_1 : List UInt8 := dkwJ12_init_1 ++ []
def dkwJ12_init_0 : List UInt8 := [42, 183, 0, 3, 178, 0, 18, 153, 0, 18, 42, 27, 188, 8, 181, 0, 15, 42, 3, 181, 0, 22]
abbrev dktJ12_init_0 : List UInt8 := dkwJ12_init_0 ++ dktJ12_init_1
theorem dksJ12_init_0 : cJ12_init.data.toList.drop 0 = dktJ12_init_0 := by decide +kernel
theorem dksJ12_init_1 : cJ12_init.data.toList.drop 22 = dktJ12_init_1 := dk_seg dksJ12_init_0 22 rfl rfl
theorem dJ12_init_0 : decode cJ12_init 0 = .ok (.aload_n 0, 1) := dk_42 (dk_at dksJ12_init_0 0 rfl rfl)
theorem dJ12_init_1 : decode cJ12_init 1 = .ok (.invokespecial 3, 3) := dk_183 0 3 (dk_at dksJ12_init_0 1 rfl rfl)
theorem dJ12_init_4 : decode cJ12_init 4 = .ok (.getstatic 18, 3) := dk_178 0 18 (dk_at dksJ12_init_0 4 rfl rfl)
theorem dJ12_init_7 : decode cJ12_init 7 = .ok (.ifCond .eq 18, 3) := dk_153 0 18 (dk_at dksJ12_init_0 7 rfl rfl)
theorem dJ12_init_10 : decode cJ12_init 10 = .ok (.aload_n 0, 1) := dk_42 (dk_at dksJ12_init_0 10 rfl rfl)
theorem dJ12_init_11 : decode cJ12_init 11 = .ok (.iload_n 1, 1) := dk_27 (dk_at dksJ12_init_0 11 rfl rfl)
theorem dJ12_init_12 : decode cJ12_init 12 = .ok (.newarray .byte, 2) := dk_188_8 (dk_at dksJ12_init_0 12 rfl rfl)
theorem dJ12_init_14 : decode cJ12_init 14 = .ok (.putfield 15, 3) := dk_181 0 15 (dk_at dksJ12_init_0 14 rfl rfl)
theorem dJ12_init_17 : decode cJ12_init 17 = .ok (.aload_n 0, 1) := dk_42 (dk_at dksJ12_init_0 17 rfl rfl)
theorem dJ12_init_18 : decode cJ12_init 18 = .ok (.iconst 0, 1) := dk_3 (dk_at dksJ12_init_0 18 rfl rfl)
theorem dJ12_init_19 : decode cJ12_init 19 = .ok (.putfield 22, 3) := dk_181 0 22 (dk_at dksJ12_init_0 19 rfl rfl)
theorem dJ12_init_22 : decode cJ12_init 22 = .ok (.goto 16, 3) := dk_167 0 16 (dk_at dksJ12_init_1 0 rfl rfl)
theorem dJ12_init_25 : decode cJ12_init 25 = .ok (.aload_n 0, 1) := dk_42 (dk_at dksJ12_init_1 3 rfl rfl)
theorem dJ12_init_26 : decode cJ12_init 26 = .ok (.iload_n 1, 1) := dk_27 (dk_at dksJ12_init_1 4 rfl rfl)
theorem dJ12_init_27 : decode cJ12_init 27 = .ok (.invokestatic 26, 3) := dk_184 0 26 (dk_at dksJ12_init_1 5 rfl rfl)
theorem dJ12_init_30 : decode cJ12_init 30 = .ok (.putfield 15, 3) := dk_181 0 15 (dk_at dksJ12_init_1 8 rfl rfl)
theorem dJ12_init_33 : decode cJ12_init 33 = .ok (.aload_n 0, 1) := dk_42 (dk_at dksJ12_init_1 11 rfl rfl)
theorem dJ12_init_34 : decode cJ12_init 34 = .ok (.iconst 1, 1) := dk_4 (dk_at dksJ12_init_1 12 rfl rfl)
theorem dJ12_init_35 : decode cJ12_init 35 = .ok (.putfield 22, 3) := dk_181 0 22 (dk_at dksJ12_init_1 13 rfl rfl)
theorem dJ12_init_38 : decode cJ12_init 38 = .ok (.return_, 1) := dk_177 (dk_at dksJ12_init_1 16 rfl rfl)
abbrev cJ12_append : ByteArray := prog_15_method_31_code
def yJ12_append : MethodName := ⟨RJ12, "append", "(C)Ljava/lang/AbstractStringBuilder;"⟩
def dkwJ12_append_3 : List UInt8 := [181, 0, 79, 27, 184, 0, 197, 42, 176]
abbrev dktJ12_append_3 : List UInt8 := dkwJ12_append_3 ++ []
def dkwJ12_append_2 : List UInt8 := [182, 0, 83, 153, 0, 7, 42, 182, 0, 195, 42, 180, 0, 15, 42, 89, 180, 0, 79, 90, 4, 96]
abbrev dktJ12_append_2 : List UInt8 := dkwJ12_append_2 ++ dktJ12_append_3
def dkwJ12_append_1 : List UInt8 := [42, 180, 0, 15, 42, 89, 180, 0, 79, 90, 4, 96, 181, 0, 79, 27, 145, 84, 167, 0, 33, 42]
abbrev dktJ12_append_1 : List UInt8 := dkwJ12_append_1 ++ dktJ12_append_2
def dkwJ12_append_0 : List UInt8 := [42, 42, 180, 0, 79, 4, 96, 182, 0, 100, 42, 182, 0, 83, 153, 0, 31, 27, 184, 0, 191, 153, 0, 24]
abbrev dktJ12_append_0 : List UInt8 := dkwJ12_append_0 ++ dktJ12_append_1
theorem dksJ12_append_0 : cJ12_append.data.toList.drop 0 = dktJ12_append_0 := by decide +kernel
theorem dksJ12_append_1 : cJ12_append.data.toList.drop 24 = dktJ12_append_1 := dk_seg dksJ12_append_0 24 rfl rfl
theorem dksJ12_append_2 : cJ12_append.data.toList.drop 46 = dktJ12_append_2 := dk_seg dksJ12_append_1 22 rfl rfl
theorem dksJ12_append_3 : cJ12_append.data.toList.drop 68 = dktJ12_append_3 := dk_seg dksJ12_append_2 22 rfl rfl
theorem dJ12_append_0 : decode cJ12_append 0 = .ok (.aload_n 0, 1) := dk_42 (dk_at dksJ12_append_0 0 rfl rfl)
theorem dJ12_append_1 : decode cJ12_append 1 = .ok (.aload_n 0, 1) := dk_42 (dk_at dksJ12_append_0 1 rfl rfl)
theorem dJ12_append_2 : decode cJ12_append 2 = .ok (.getfield 79, 3) := dk_180 0 79 (dk_at dksJ12_append_0 2 rfl rfl)
theorem dJ12_append_5 : decode cJ12_append 5 = .ok (.iconst 1, 1) := dk_4 (dk_at dksJ12_append_0 5 rfl rfl)
theorem dJ12_append_6 : decode cJ12_append 6 = .ok (.iadd, 1) := dk_96 (dk_at dksJ12_append_0 6 rfl rfl)
theorem dJ12_append_7 : decode cJ12_append 7 = .ok (.invokevirtual 100, 3) := dk_182 0 100 (dk_at dksJ12_append_0 7 rfl rfl)
theorem dJ12_append_10 : decode cJ12_append 10 = .ok (.aload_n 0, 1) := dk_42 (dk_at dksJ12_append_0 10 rfl rfl)
theorem dJ12_append_11 : decode cJ12_append 11 = .ok (.invokevirtual 83, 3) := dk_182 0 83 (dk_at dksJ12_append_0 11 rfl rfl)
theorem dJ12_append_14 : decode cJ12_append 14 = .ok (.ifCond .eq 31, 3) := dk_153 0 31 (dk_at dksJ12_append_0 14 rfl rfl)
theorem dJ12_append_17 : decode cJ12_append 17 = .ok (.iload_n 1, 1) := dk_27 (dk_at dksJ12_append_0 17 rfl rfl)
theorem dJ12_append_18 : decode cJ12_append 18 = .ok (.invokestatic 191, 3) := dk_184 0 191 (dk_at dksJ12_append_0 18 rfl rfl)
theorem dJ12_append_21 : decode cJ12_append 21 = .ok (.ifCond .eq 24, 3) := dk_153 0 24 (dk_at dksJ12_append_0 21 rfl rfl)
theorem dJ12_append_24 : decode cJ12_append 24 = .ok (.aload_n 0, 1) := dk_42 (dk_at dksJ12_append_1 0 rfl rfl)
theorem dJ12_append_25 : decode cJ12_append 25 = .ok (.getfield 15, 3) := dk_180 0 15 (dk_at dksJ12_append_1 1 rfl rfl)
theorem dJ12_append_28 : decode cJ12_append 28 = .ok (.aload_n 0, 1) := dk_42 (dk_at dksJ12_append_1 4 rfl rfl)
theorem dJ12_append_29 : decode cJ12_append 29 = .ok (.dup, 1) := dk_89 (dk_at dksJ12_append_1 5 rfl rfl)
theorem dJ12_append_30 : decode cJ12_append 30 = .ok (.getfield 79, 3) := dk_180 0 79 (dk_at dksJ12_append_1 6 rfl rfl)
theorem dJ12_append_33 : decode cJ12_append 33 = .ok (.dup_x1, 1) := dk_90 (dk_at dksJ12_append_1 9 rfl rfl)
theorem dJ12_append_34 : decode cJ12_append 34 = .ok (.iconst 1, 1) := dk_4 (dk_at dksJ12_append_1 10 rfl rfl)
theorem dJ12_append_35 : decode cJ12_append 35 = .ok (.iadd, 1) := dk_96 (dk_at dksJ12_append_1 11 rfl rfl)
theorem dJ12_append_36 : decode cJ12_append 36 = .ok (.putfield 79, 3) := dk_181 0 79 (dk_at dksJ12_append_1 12 rfl rfl)
theorem dJ12_append_39 : decode cJ12_append 39 = .ok (.iload_n 1, 1) := dk_27 (dk_at dksJ12_append_1 15 rfl rfl)
theorem dJ12_append_40 : decode cJ12_append 40 = .ok (.i2b, 1) := dk_145 (dk_at dksJ12_append_1 16 rfl rfl)
theorem dJ12_append_41 : decode cJ12_append 41 = .ok (.bastore, 1) := dk_84 (dk_at dksJ12_append_1 17 rfl rfl)
theorem dJ12_append_42 : decode cJ12_append 42 = .ok (.goto 33, 3) := dk_167 0 33 (dk_at dksJ12_append_1 18 rfl rfl)
theorem dJ12_append_45 : decode cJ12_append 45 = .ok (.aload_n 0, 1) := dk_42 (dk_at dksJ12_append_1 21 rfl rfl)
theorem dJ12_append_46 : decode cJ12_append 46 = .ok (.invokevirtual 83, 3) := dk_182 0 83 (dk_at dksJ12_append_2 0 rfl rfl)
theorem dJ12_append_49 : decode cJ12_append 49 = .ok (.ifCond .eq 7, 3) := dk_153 0 7 (dk_at dksJ12_append_2 3 rfl rfl)
theorem dJ12_append_52 : decode cJ12_append 52 = .ok (.aload_n 0, 1) := dk_42 (dk_at dksJ12_append_2 6 rfl rfl)
theorem dJ12_append_53 : decode cJ12_append 53 = .ok (.invokevirtual 195, 3) := dk_182 0 195 (dk_at dksJ12_append_2 7 rfl rfl)
theorem dJ12_append_56 : decode cJ12_append 56 = .ok (.aload_n 0, 1) := dk_42 (dk_at dksJ12_append_2 10 rfl rfl)
theorem dJ12_append_57 : decode cJ12_append 57 = .ok (.getfield 15, 3) := dk_180 0 15 (dk_at dksJ12_append_2 11 rfl rfl)
theorem dJ12_append_60 : decode cJ12_append 60 = .ok (.aload_n 0, 1) := dk_42 (dk_at dksJ12_append_2 14 rfl rfl)
theorem dJ12_append_61 : decode cJ12_append 61 = .ok (.dup, 1) := dk_89 (dk_at dksJ12_append_2 15 rfl rfl)
theorem dJ12_append_62 : decode cJ12_append 62 = .ok (.getfield 79, 3) := dk_180 0 79 (dk_at dksJ12_append_2 16 rfl rfl)
theorem dJ12_append_65 : decode cJ12_append 65 = .ok (.dup_x1, 1) := dk_90 (dk_at dksJ12_append_2 19 rfl rfl)
theorem dJ12_append_66 : decode cJ12_append 66 = .ok (.iconst 1, 1) := dk_4 (dk_at dksJ12_append_2 20 rfl rfl)
theorem dJ12_append_67 : decode cJ12_append 67 = .ok (.iadd, 1) := dk_96 (dk_at dksJ12_append_2 21 rfl rfl)
theorem dJ12_append_68 : decode cJ12_append 68 = .ok (.putfield 79, 3) := dk_181 0 79 (dk_at dksJ12_append_3 0 rfl rfl)
theorem dJ12_append_71 : decode cJ12_append 71 = .ok (.iload_n 1, 1) := dk_27 (dk_at dksJ12_append_3 3 rfl rfl)
theorem dJ12_append_72 : decode cJ12_append 72 = .ok (.invokestatic 197, 3) := dk_184 0 197 (dk_at dksJ12_append_3 4 rfl rfl)
theorem dJ12_append_75 : decode cJ12_append 75 = .ok (.aload_n 0, 1) := dk_42 (dk_at dksJ12_append_3 7 rfl rfl)
theorem dJ12_append_76 : decode cJ12_append 76 = .ok (.areturn, 1) := dk_176 (dk_at dksJ12_append_3 8 rfl rfl)
abbrev cJ12_ensureCapacityInternal : ByteArray := prog_15_method_9_code
def yJ12_ensureCapacityInternal : MethodName := ⟨RJ12, "ensureCapacityInternal", "(I)V"⟩
def dkwJ12_ensureCapacityInternal_1 : List UInt8 := [182, 0, 104, 42, 180, 0, 22, 120, 184, 0, 108, 181, 0, 15, 177]
abbrev dktJ12_ensureCapacityInternal_1 : List UInt8 := dkwJ12_ensureCapacityInternal_1 ++ []
def dkwJ12_ensureCapacityInternal_0 : List UInt8 := [42, 180, 0, 15, 190, 42, 180, 0, 22, 122, 61, 27, 28, 100, 158, 0, 24, 42, 42, 180, 0, 15, 42, 27]
abbrev dktJ12_ensureCapacityInternal_0 : List UInt8 := dkwJ12_ensureCapacityInternal_0 ++ dktJ12_ensureCapacityInternal_1
theorem dksJ12_ensureCapacityInternal_0 : cJ12_ensureCapacityInternal.data.toList.drop 0 = dktJ12_ensureCapacityInternal_0 := by decide +kernel
theorem dksJ12_ensureCapacityInternal_1 : cJ12_ensureCapacityInternal.data.toList.drop 24 = dktJ12_ensureCapacityInternal_1 := dk_seg dksJ12_ensureCapacityInternal_0 24 rfl rfl
theorem dJ12_ensureCapacityInternal_0 : decode cJ12_ensureCapacityInternal 0 = .ok (.aload_n 0, 1) := dk_42 (dk_at dksJ12_ensureCapacityInternal_0 0 rfl rfl)
theorem dJ12_ensureCapacityInternal_1 : decode cJ12_ensureCapacityInternal 1 = .ok (.getfield 15, 3) := dk_180 0 15 (dk_at dksJ12_ensureCapacityInternal_0 1 rfl rfl)
theorem dJ12_ensureCapacityInternal_4 : decode cJ12_ensureCapacityInternal 4 = .ok (.arraylength, 1) := dk_190 (dk_at dksJ12_ensureCapacityInternal_0 4 rfl rfl)
theorem dJ12_ensureCapacityInternal_5 : decode cJ12_ensureCapacityInternal 5 = .ok (.aload_n 0, 1) := dk_42 (dk_at dksJ12_ensureCapacityInternal_0 5 rfl rfl)
theorem dJ12_ensureCapacityInternal_6 : decode cJ12_ensureCapacityInternal 6 = .ok (.getfield 22, 3) := dk_180 0 22 (dk_at dksJ12_ensureCapacityInternal_0 6 rfl rfl)
theorem dJ12_ensureCapacityInternal_9 : decode cJ12_ensureCapacityInternal 9 = .ok (.ishr, 1) := dk_122 (dk_at dksJ12_ensureCapacityInternal_0 9 rfl rfl)
theorem dJ12_ensureCapacityInternal_10 : decode cJ12_ensureCapacityInternal 10 = .ok (.istore_n 2, 1) := dk_61 (dk_at dksJ12_ensureCapacityInternal_0 10 rfl rfl)
theorem dJ12_ensureCapacityInternal_11 : decode cJ12_ensureCapacityInternal 11 = .ok (.iload_n 1, 1) := dk_27 (dk_at dksJ12_ensureCapacityInternal_0 11 rfl rfl)
theorem dJ12_ensureCapacityInternal_12 : decode cJ12_ensureCapacityInternal 12 = .ok (.iload_n 2, 1) := dk_28 (dk_at dksJ12_ensureCapacityInternal_0 12 rfl rfl)
theorem dJ12_ensureCapacityInternal_13 : decode cJ12_ensureCapacityInternal 13 = .ok (.isub, 1) := dk_100 (dk_at dksJ12_ensureCapacityInternal_0 13 rfl rfl)
theorem dJ12_ensureCapacityInternal_14 : decode cJ12_ensureCapacityInternal 14 = .ok (.ifCond .le 24, 3) := dk_158 0 24 (dk_at dksJ12_ensureCapacityInternal_0 14 rfl rfl)
theorem dJ12_ensureCapacityInternal_17 : decode cJ12_ensureCapacityInternal 17 = .ok (.aload_n 0, 1) := dk_42 (dk_at dksJ12_ensureCapacityInternal_0 17 rfl rfl)
theorem dJ12_ensureCapacityInternal_18 : decode cJ12_ensureCapacityInternal 18 = .ok (.aload_n 0, 1) := dk_42 (dk_at dksJ12_ensureCapacityInternal_0 18 rfl rfl)
theorem dJ12_ensureCapacityInternal_19 : decode cJ12_ensureCapacityInternal 19 = .ok (.getfield 15, 3) := dk_180 0 15 (dk_at dksJ12_ensureCapacityInternal_0 19 rfl rfl)
theorem dJ12_ensureCapacityInternal_22 : decode cJ12_ensureCapacityInternal 22 = .ok (.aload_n 0, 1) := dk_42 (dk_at dksJ12_ensureCapacityInternal_0 22 rfl rfl)
theorem dJ12_ensureCapacityInternal_23 : decode cJ12_ensureCapacityInternal 23 = .ok (.iload_n 1, 1) := dk_27 (dk_at dksJ12_ensureCapacityInternal_0 23 rfl rfl)
theorem dJ12_ensureCapacityInternal_24 : decode cJ12_ensureCapacityInternal 24 = .ok (.invokevirtual 104, 3) := dk_182 0 104 (dk_at dksJ12_ensureCapacityInternal_1 0 rfl rfl)
theorem dJ12_ensureCapacityInternal_27 : decode cJ12_ensureCapacityInternal 27 = .ok (.aload_n 0, 1) := dk_42 (dk_at dksJ12_ensureCapacityInternal_1 3 rfl rfl)
theorem dJ12_ensureCapacityInternal_28 : decode cJ12_ensureCapacityInternal 28 = .ok (.getfield 22, 3) := dk_180 0 22 (dk_at dksJ12_ensureCapacityInternal_1 4 rfl rfl)
theorem dJ12_ensureCapacityInternal_31 : decode cJ12_ensureCapacityInternal 31 = .ok (.ishl, 1) := dk_120 (dk_at dksJ12_ensureCapacityInternal_1 7 rfl rfl)
theorem dJ12_ensureCapacityInternal_32 : decode cJ12_ensureCapacityInternal 32 = .ok (.invokestatic 108, 3) := dk_184 0 108 (dk_at dksJ12_ensureCapacityInternal_1 8 rfl rfl)
theorem dJ12_ensureCapacityInternal_35 : decode cJ12_ensureCapacityInternal 35 = .ok (.putfield 15, 3) := dk_181 0 15 (dk_at dksJ12_ensureCapacityInternal_1 11 rfl rfl)
theorem dJ12_ensureCapacityInternal_38 : decode cJ12_ensureCapacityInternal 38 = .ok (.return_, 1) := dk_177 (dk_at dksJ12_ensureCapacityInternal_1 14 rfl rfl)
abbrev cJ12_newCapacity : ByteArray := prog_15_method_10_code
def yJ12_newCapacity : MethodName := ⟨RJ12, "newCapacity", "(I)I"⟩
def dkwJ12_newCapacity_2 : List UInt8 := [183, 0, 124, 191, 21, 5, 42, 180, 0, 22, 122, 172]
abbrev dktJ12_newCapacity_2 : List UInt8 := dkwJ12_newCapacity_2 ++ []
def dkwJ12_newCapacity_1 : List UInt8 := [180, 0, 22, 120, 96, 184, 0, 114, 54, 5, 21, 5, 18, 39, 160, 0, 13, 187, 0, 120, 89, 18, 122]
abbrev dktJ12_newCapacity_1 : List UInt8 := dkwJ12_newCapacity_1 ++ dktJ12_newCapacity_2
def dkwJ12_newCapacity_0 : List UInt8 := [42, 180, 0, 15, 190, 61, 27, 42, 180, 0, 22, 120, 62, 29, 28, 100, 54, 4, 28, 21, 4, 28, 5, 42]
abbrev dktJ12_newCapacity_0 : List UInt8 := dkwJ12_newCapacity_0 ++ dktJ12_newCapacity_1
theorem dksJ12_newCapacity_0 : cJ12_newCapacity.data.toList.drop 0 = dktJ12_newCapacity_0 := by decide +kernel
theorem dksJ12_newCapacity_1 : cJ12_newCapacity.data.toList.drop 24 = dktJ12_newCapacity_1 := dk_seg dksJ12_newCapacity_0 24 rfl rfl
theorem dksJ12_newCapacity_2 : cJ12_newCapacity.data.toList.drop 47 = dktJ12_newCapacity_2 := dk_seg dksJ12_newCapacity_1 23 rfl rfl
theorem dJ12_newCapacity_0 : decode cJ12_newCapacity 0 = .ok (.aload_n 0, 1) := dk_42 (dk_at dksJ12_newCapacity_0 0 rfl rfl)
theorem dJ12_newCapacity_1 : decode cJ12_newCapacity 1 = .ok (.getfield 15, 3) := dk_180 0 15 (dk_at dksJ12_newCapacity_0 1 rfl rfl)
theorem dJ12_newCapacity_4 : decode cJ12_newCapacity 4 = .ok (.arraylength, 1) := dk_190 (dk_at dksJ12_newCapacity_0 4 rfl rfl)
theorem dJ12_newCapacity_5 : decode cJ12_newCapacity 5 = .ok (.istore_n 2, 1) := dk_61 (dk_at dksJ12_newCapacity_0 5 rfl rfl)
theorem dJ12_newCapacity_6 : decode cJ12_newCapacity 6 = .ok (.iload_n 1, 1) := dk_27 (dk_at dksJ12_newCapacity_0 6 rfl rfl)
theorem dJ12_newCapacity_7 : decode cJ12_newCapacity 7 = .ok (.aload_n 0, 1) := dk_42 (dk_at dksJ12_newCapacity_0 7 rfl rfl)
theorem dJ12_newCapacity_8 : decode cJ12_newCapacity 8 = .ok (.getfield 22, 3) := dk_180 0 22 (dk_at dksJ12_newCapacity_0 8 rfl rfl)
theorem dJ12_newCapacity_11 : decode cJ12_newCapacity 11 = .ok (.ishl, 1) := dk_120 (dk_at dksJ12_newCapacity_0 11 rfl rfl)
theorem dJ12_newCapacity_12 : decode cJ12_newCapacity 12 = .ok (.istore_n 3, 1) := dk_62 (dk_at dksJ12_newCapacity_0 12 rfl rfl)
theorem dJ12_newCapacity_13 : decode cJ12_newCapacity 13 = .ok (.iload_n 3, 1) := dk_29 (dk_at dksJ12_newCapacity_0 13 rfl rfl)
theorem dJ12_newCapacity_14 : decode cJ12_newCapacity 14 = .ok (.iload_n 2, 1) := dk_28 (dk_at dksJ12_newCapacity_0 14 rfl rfl)
theorem dJ12_newCapacity_15 : decode cJ12_newCapacity 15 = .ok (.isub, 1) := dk_100 (dk_at dksJ12_newCapacity_0 15 rfl rfl)
theorem dJ12_newCapacity_16 : decode cJ12_newCapacity 16 = .ok (.istore 4, 2) := dk_54 4 (dk_at dksJ12_newCapacity_0 16 rfl rfl)
theorem dJ12_newCapacity_18 : decode cJ12_newCapacity 18 = .ok (.iload_n 2, 1) := dk_28 (dk_at dksJ12_newCapacity_0 18 rfl rfl)
theorem dJ12_newCapacity_19 : decode cJ12_newCapacity 19 = .ok (.iload 4, 2) := dk_21 4 (dk_at dksJ12_newCapacity_0 19 rfl rfl)
theorem dJ12_newCapacity_21 : decode cJ12_newCapacity 21 = .ok (.iload_n 2, 1) := dk_28 (dk_at dksJ12_newCapacity_0 21 rfl rfl)
theorem dJ12_newCapacity_22 : decode cJ12_newCapacity 22 = .ok (.iconst 2, 1) := dk_5 (dk_at dksJ12_newCapacity_0 22 rfl rfl)
theorem dJ12_newCapacity_23 : decode cJ12_newCapacity 23 = .ok (.aload_n 0, 1) := dk_42 (dk_at dksJ12_newCapacity_0 23 rfl rfl)
theorem dJ12_newCapacity_24 : decode cJ12_newCapacity 24 = .ok (.getfield 22, 3) := dk_180 0 22 (dk_at dksJ12_newCapacity_1 0 rfl rfl)
theorem dJ12_newCapacity_27 : decode cJ12_newCapacity 27 = .ok (.ishl, 1) := dk_120 (dk_at dksJ12_newCapacity_1 3 rfl rfl)
theorem dJ12_newCapacity_28 : decode cJ12_newCapacity 28 = .ok (.iadd, 1) := dk_96 (dk_at dksJ12_newCapacity_1 4 rfl rfl)
theorem dJ12_newCapacity_29 : decode cJ12_newCapacity 29 = .ok (.invokestatic 114, 3) := dk_184 0 114 (dk_at dksJ12_newCapacity_1 5 rfl rfl)
theorem dJ12_newCapacity_32 : decode cJ12_newCapacity 32 = .ok (.istore 5, 2) := dk_54 5 (dk_at dksJ12_newCapacity_1 8 rfl rfl)
theorem dJ12_newCapacity_34 : decode cJ12_newCapacity 34 = .ok (.iload 5, 2) := dk_21 5 (dk_at dksJ12_newCapacity_1 10 rfl rfl)
theorem dJ12_newCapacity_36 : decode cJ12_newCapacity 36 = .ok (.ldc 39, 2) := dk_18 39 (dk_at dksJ12_newCapacity_1 12 rfl rfl)
theorem dJ12_newCapacity_38 : decode cJ12_newCapacity 38 = .ok (.if_icmp .ne 13, 3) := dk_160 0 13 (dk_at dksJ12_newCapacity_1 14 rfl rfl)
theorem dJ12_newCapacity_41 : decode cJ12_newCapacity 41 = .ok (.new 120, 3) := dk_187 0 120 (dk_at dksJ12_newCapacity_1 17 rfl rfl)
theorem dJ12_newCapacity_44 : decode cJ12_newCapacity 44 = .ok (.dup, 1) := dk_89 (dk_at dksJ12_newCapacity_1 20 rfl rfl)
theorem dJ12_newCapacity_45 : decode cJ12_newCapacity 45 = .ok (.ldc 122, 2) := dk_18 122 (dk_at dksJ12_newCapacity_1 21 rfl rfl)
theorem dJ12_newCapacity_47 : decode cJ12_newCapacity 47 = .ok (.invokespecial 124, 3) := dk_183 0 124 (dk_at dksJ12_newCapacity_2 0 rfl rfl)
theorem dJ12_newCapacity_50 : decode cJ12_newCapacity 50 = .ok (.athrow, 1) := dk_191 (dk_at dksJ12_newCapacity_2 3 rfl rfl)
theorem dJ12_newCapacity_51 : decode cJ12_newCapacity 51 = .ok (.iload 5, 2) := dk_21 5 (dk_at dksJ12_newCapacity_2 4 rfl rfl)
theorem dJ12_newCapacity_53 : decode cJ12_newCapacity 53 = .ok (.aload_n 0, 1) := dk_42 (dk_at dksJ12_newCapacity_2 6 rfl rfl)
theorem dJ12_newCapacity_54 : decode cJ12_newCapacity 54 = .ok (.getfield 22, 3) := dk_180 0 22 (dk_at dksJ12_newCapacity_2 7 rfl rfl)
theorem dJ12_newCapacity_57 : decode cJ12_newCapacity 57 = .ok (.ishr, 1) := dk_122 (dk_at dksJ12_newCapacity_2 10 rfl rfl)
theorem dJ12_newCapacity_58 : decode cJ12_newCapacity 58 = .ok (.ireturn, 1) := dk_172 (dk_at dksJ12_newCapacity_2 11 rfl rfl)
abbrev cJ12_isLatin1 : ByteArray := prog_15_method_68_code
def yJ12_isLatin1 : MethodName := ⟨RJ12, "isLatin1", "()Z"⟩
def dkwJ12_isLatin1_0 : List UInt8 := [178, 0, 18, 153, 0, 14, 42, 180, 0, 22, 154, 0, 7, 4, 167, 0, 4, 3, 172]
abbrev dktJ12_isLatin1_0 : List UInt8 := dkwJ12_isLatin1_0 ++ []
theorem dksJ12_isLatin1_0 : cJ12_isLatin1.data.toList.drop 0 = dktJ12_isLatin1_0 := by decide +kernel
theorem dJ12_isLatin1_0 : decode cJ12_isLatin1 0 = .ok (.getstatic 18, 3) := dk_178 0 18 (dk_at dksJ12_isLatin1_0 0 rfl rfl)
theorem dJ12_isLatin1_3 : decode cJ12_isLatin1 3 = .ok (.ifCond .eq 14, 3) := dk_153 0 14 (dk_at dksJ12_isLatin1_0 3 rfl rfl)
theorem dJ12_isLatin1_6 : decode cJ12_isLatin1 6 = .ok (.aload_n 0, 1) := dk_42 (dk_at dksJ12_isLatin1_0 6 rfl rfl)
theorem dJ12_isLatin1_7 : decode cJ12_isLatin1 7 = .ok (.getfield 22, 3) := dk_180 0 22 (dk_at dksJ12_isLatin1_0 7 rfl rfl)
theorem dJ12_isLatin1_10 : decode cJ12_isLatin1 10 = .ok (.ifCond .ne 7, 3) := dk_154 0 7 (dk_at dksJ12_isLatin1_0 10 rfl rfl)
theorem dJ12_isLatin1_13 : decode cJ12_isLatin1 13 = .ok (.iconst 1, 1) := dk_4 (dk_at dksJ12_isLatin1_0 13 rfl rfl)
theorem dJ12_isLatin1_14 : decode cJ12_isLatin1 14 = .ok (.goto 4, 3) := dk_167 0 4 (dk_at dksJ12_isLatin1_0 14 rfl rfl)
theorem dJ12_isLatin1_17 : decode cJ12_isLatin1 17 = .ok (.iconst 0, 1) := dk_3 (dk_at dksJ12_isLatin1_0 17 rfl rfl)
theorem dJ12_isLatin1_18 : decode cJ12_isLatin1 18 = .ok (.ireturn, 1) := dk_172 (dk_at dksJ12_isLatin1_0 18 rfl rfl)
abbrev cJ12_inflate : ByteArray := prog_15_method_11_code
def yJ12_inflate : MethodName := ⟨RJ12, "inflate", "()V"⟩
def dkwJ12_inflate_1 : List UInt8 := [42, 180, 0, 79, 184, 0, 125, 42, 43, 181, 0, 15, 42, 4, 181, 0, 22, 177]
abbrev dktJ12_inflate_1 : List UInt8 := dkwJ12_inflate_1 ++ []
def dkwJ12_inflate_0 : List UInt8 := [42, 182, 0, 83, 154, 0, 4, 177, 42, 180, 0, 15, 190, 184, 0, 26, 76, 42, 180, 0, 15, 3, 43, 3]
abbrev dktJ12_inflate_0 : List UInt8 := dkwJ12_inflate_0 ++ dktJ12_inflate_1
theorem dksJ12_inflate_0 : cJ12_inflate.data.toList.drop 0 = dktJ12_inflate_0 := by decide +kernel
theorem dksJ12_inflate_1 : cJ12_inflate.data.toList.drop 24 = dktJ12_inflate_1 := dk_seg dksJ12_inflate_0 24 rfl rfl
theorem dJ12_inflate_0 : decode cJ12_inflate 0 = .ok (.aload_n 0, 1) := dk_42 (dk_at dksJ12_inflate_0 0 rfl rfl)
theorem dJ12_inflate_1 : decode cJ12_inflate 1 = .ok (.invokevirtual 83, 3) := dk_182 0 83 (dk_at dksJ12_inflate_0 1 rfl rfl)
theorem dJ12_inflate_4 : decode cJ12_inflate 4 = .ok (.ifCond .ne 4, 3) := dk_154 0 4 (dk_at dksJ12_inflate_0 4 rfl rfl)
theorem dJ12_inflate_7 : decode cJ12_inflate 7 = .ok (.return_, 1) := dk_177 (dk_at dksJ12_inflate_0 7 rfl rfl)
theorem dJ12_inflate_8 : decode cJ12_inflate 8 = .ok (.aload_n 0, 1) := dk_42 (dk_at dksJ12_inflate_0 8 rfl rfl)
theorem dJ12_inflate_9 : decode cJ12_inflate 9 = .ok (.getfield 15, 3) := dk_180 0 15 (dk_at dksJ12_inflate_0 9 rfl rfl)
theorem dJ12_inflate_12 : decode cJ12_inflate 12 = .ok (.arraylength, 1) := dk_190 (dk_at dksJ12_inflate_0 12 rfl rfl)
theorem dJ12_inflate_13 : decode cJ12_inflate 13 = .ok (.invokestatic 26, 3) := dk_184 0 26 (dk_at dksJ12_inflate_0 13 rfl rfl)
theorem dJ12_inflate_16 : decode cJ12_inflate 16 = .ok (.astore_n 1, 1) := dk_76 (dk_at dksJ12_inflate_0 16 rfl rfl)
theorem dJ12_inflate_17 : decode cJ12_inflate 17 = .ok (.aload_n 0, 1) := dk_42 (dk_at dksJ12_inflate_0 17 rfl rfl)
theorem dJ12_inflate_18 : decode cJ12_inflate 18 = .ok (.getfield 15, 3) := dk_180 0 15 (dk_at dksJ12_inflate_0 18 rfl rfl)
theorem dJ12_inflate_21 : decode cJ12_inflate 21 = .ok (.iconst 0, 1) := dk_3 (dk_at dksJ12_inflate_0 21 rfl rfl)
theorem dJ12_inflate_22 : decode cJ12_inflate 22 = .ok (.aload_n 1, 1) := dk_43 (dk_at dksJ12_inflate_0 22 rfl rfl)
theorem dJ12_inflate_23 : decode cJ12_inflate 23 = .ok (.iconst 0, 1) := dk_3 (dk_at dksJ12_inflate_0 23 rfl rfl)
theorem dJ12_inflate_24 : decode cJ12_inflate 24 = .ok (.aload_n 0, 1) := dk_42 (dk_at dksJ12_inflate_1 0 rfl rfl)
theorem dJ12_inflate_25 : decode cJ12_inflate 25 = .ok (.getfield 79, 3) := dk_180 0 79 (dk_at dksJ12_inflate_1 1 rfl rfl)
theorem dJ12_inflate_28 : decode cJ12_inflate 28 = .ok (.invokestatic 125, 3) := dk_184 0 125 (dk_at dksJ12_inflate_1 4 rfl rfl)
theorem dJ12_inflate_31 : decode cJ12_inflate 31 = .ok (.aload_n 0, 1) := dk_42 (dk_at dksJ12_inflate_1 7 rfl rfl)
theorem dJ12_inflate_32 : decode cJ12_inflate 32 = .ok (.aload_n 1, 1) := dk_43 (dk_at dksJ12_inflate_1 8 rfl rfl)
theorem dJ12_inflate_33 : decode cJ12_inflate 33 = .ok (.putfield 15, 3) := dk_181 0 15 (dk_at dksJ12_inflate_1 9 rfl rfl)
theorem dJ12_inflate_36 : decode cJ12_inflate 36 = .ok (.aload_n 0, 1) := dk_42 (dk_at dksJ12_inflate_1 12 rfl rfl)
theorem dJ12_inflate_37 : decode cJ12_inflate 37 = .ok (.iconst 1, 1) := dk_4 (dk_at dksJ12_inflate_1 13 rfl rfl)
theorem dJ12_inflate_38 : decode cJ12_inflate 38 = .ok (.putfield 22, 3) := dk_181 0 22 (dk_at dksJ12_inflate_1 14 rfl rfl)
theorem dJ12_inflate_41 : decode cJ12_inflate 41 = .ok (.return_, 1) := dk_177 (dk_at dksJ12_inflate_1 17 rfl rfl)
abbrev cJ12_getValue : ByteArray := prog_15_method_64_code
def yJ12_getValue : MethodName := ⟨RJ12, "getValue", "()[B"⟩
theorem dJ12_getValue_0 : decode cJ12_getValue 0 = .ok (.aload_n 0, 1) := by decide +kernel
theorem dJ12_getValue_1 : decode cJ12_getValue 1 = .ok (.getfield 15, 3) := by decide +kernel
theorem dJ12_getValue_4 : decode cJ12_getValue 4 = .ok (.areturn, 1) := by decide +kernel
abbrev cJ12_length : ByteArray := prog_15_method_6_code
def yJ12_length : MethodName := ⟨RJ12, "length", "()I"⟩
theorem dJ12_length_0 : decode cJ12_length 0 = .ok (.aload_n 0, 1) := by decide +kernel
theorem dJ12_length_1 : decode cJ12_length 1 = .ok (.getfield 79, 3) := by decide +kernel
theorem dJ12_length_4 : decode cJ12_length 4 = .ok (.ireturn, 1) := by decide +kernel
abbrev cJ12_append_2 : ByteArray := prog_15_method_32_code
def yJ12_append_2 : MethodName := ⟨RJ12, "append", "(I)Ljava/lang/AbstractStringBuilder;"⟩
def dkwJ12_append_2_2 : List UInt8 := [42, 29, 181, 0, 79, 42, 176]
abbrev dktJ12_append_2_2 : List UInt8 := dkwJ12_append_2_2 ++ []
def dkwJ12_append_2_1 : List UInt8 := [27, 29, 42, 180, 0, 15, 184, 0, 248, 87, 167, 0, 14, 27, 28, 29, 42, 180, 0, 15, 184, 0, 251, 87]
abbrev dktJ12_append_2_1 : List UInt8 := dkwJ12_append_2_1 ++ dktJ12_append_2_2
def dkwJ12_append_2_0 : List UInt8 := [42, 180, 0, 79, 61, 28, 27, 184, 0, 245, 96, 62, 42, 29, 182, 0, 100, 42, 182, 0, 83, 153, 0, 16]
abbrev dktJ12_append_2_0 : List UInt8 := dkwJ12_append_2_0 ++ dktJ12_append_2_1
theorem dksJ12_append_2_0 : cJ12_append_2.data.toList.drop 0 = dktJ12_append_2_0 := by decide +kernel
theorem dksJ12_append_2_1 : cJ12_append_2.data.toList.drop 24 = dktJ12_append_2_1 := dk_seg dksJ12_append_2_0 24 rfl rfl
theorem dksJ12_append_2_2 : cJ12_append_2.data.toList.drop 48 = dktJ12_append_2_2 := dk_seg dksJ12_append_2_1 24 rfl rfl
theorem dJ12_append_2_0 : decode cJ12_append_2 0 = .ok (.aload_n 0, 1) := dk_42 (dk_at dksJ12_append_2_0 0 rfl rfl)
theorem dJ12_append_2_1 : decode cJ12_append_2 1 = .ok (.getfield 79, 3) := dk_180 0 79 (dk_at dksJ12_append_2_0 1 rfl rfl)
theorem dJ12_append_2_4 : decode cJ12_append_2 4 = .ok (.istore_n 2, 1) := dk_61 (dk_at dksJ12_append_2_0 4 rfl rfl)
theorem dJ12_append_2_5 : decode cJ12_append_2 5 = .ok (.iload_n 2, 1) := dk_28 (dk_at dksJ12_append_2_0 5 rfl rfl)
theorem dJ12_append_2_6 : decode cJ12_append_2 6 = .ok (.iload_n 1, 1) := dk_27 (dk_at dksJ12_append_2_0 6 rfl rfl)
theorem dJ12_append_2_7 : decode cJ12_append_2 7 = .ok (.invokestatic 245, 3) := dk_184 0 245 (dk_at dksJ12_append_2_0 7 rfl rfl)
theorem dJ12_append_2_10 : decode cJ12_append_2 10 = .ok (.iadd, 1) := dk_96 (dk_at dksJ12_append_2_0 10 rfl rfl)
theorem dJ12_append_2_11 : decode cJ12_append_2 11 = .ok (.istore_n 3, 1) := dk_62 (dk_at dksJ12_append_2_0 11 rfl rfl)
theorem dJ12_append_2_12 : decode cJ12_append_2 12 = .ok (.aload_n 0, 1) := dk_42 (dk_at dksJ12_append_2_0 12 rfl rfl)
theorem dJ12_append_2_13 : decode cJ12_append_2 13 = .ok (.iload_n 3, 1) := dk_29 (dk_at dksJ12_append_2_0 13 rfl rfl)
theorem dJ12_append_2_14 : decode cJ12_append_2 14 = .ok (.invokevirtual 100, 3) := dk_182 0 100 (dk_at dksJ12_append_2_0 14 rfl rfl)
theorem dJ12_append_2_17 : decode cJ12_append_2 17 = .ok (.aload_n 0, 1) := dk_42 (dk_at dksJ12_append_2_0 17 rfl rfl)
theorem dJ12_append_2_18 : decode cJ12_append_2 18 = .ok (.invokevirtual 83, 3) := dk_182 0 83 (dk_at dksJ12_append_2_0 18 rfl rfl)
theorem dJ12_append_2_21 : decode cJ12_append_2 21 = .ok (.ifCond .eq 16, 3) := dk_153 0 16 (dk_at dksJ12_append_2_0 21 rfl rfl)
theorem dJ12_append_2_24 : decode cJ12_append_2 24 = .ok (.iload_n 1, 1) := dk_27 (dk_at dksJ12_append_2_1 0 rfl rfl)
theorem dJ12_append_2_25 : decode cJ12_append_2 25 = .ok (.iload_n 3, 1) := dk_29 (dk_at dksJ12_append_2_1 1 rfl rfl)
theorem dJ12_append_2_26 : decode cJ12_append_2 26 = .ok (.aload_n 0, 1) := dk_42 (dk_at dksJ12_append_2_1 2 rfl rfl)
theorem dJ12_append_2_27 : decode cJ12_append_2 27 = .ok (.getfield 15, 3) := dk_180 0 15 (dk_at dksJ12_append_2_1 3 rfl rfl)
theorem dJ12_append_2_30 : decode cJ12_append_2 30 = .ok (.invokestatic 248, 3) := dk_184 0 248 (dk_at dksJ12_append_2_1 6 rfl rfl)
theorem dJ12_append_2_33 : decode cJ12_append_2 33 = .ok (.pop, 1) := dk_87 (dk_at dksJ12_append_2_1 9 rfl rfl)
theorem dJ12_append_2_34 : decode cJ12_append_2 34 = .ok (.goto 14, 3) := dk_167 0 14 (dk_at dksJ12_append_2_1 10 rfl rfl)
theorem dJ12_append_2_37 : decode cJ12_append_2 37 = .ok (.iload_n 1, 1) := dk_27 (dk_at dksJ12_append_2_1 13 rfl rfl)
theorem dJ12_append_2_38 : decode cJ12_append_2 38 = .ok (.iload_n 2, 1) := dk_28 (dk_at dksJ12_append_2_1 14 rfl rfl)
theorem dJ12_append_2_39 : decode cJ12_append_2 39 = .ok (.iload_n 3, 1) := dk_29 (dk_at dksJ12_append_2_1 15 rfl rfl)
theorem dJ12_append_2_40 : decode cJ12_append_2 40 = .ok (.aload_n 0, 1) := dk_42 (dk_at dksJ12_append_2_1 16 rfl rfl)
theorem dJ12_append_2_41 : decode cJ12_append_2 41 = .ok (.getfield 15, 3) := dk_180 0 15 (dk_at dksJ12_append_2_1 17 rfl rfl)
theorem dJ12_append_2_44 : decode cJ12_append_2 44 = .ok (.invokestatic 251, 3) := dk_184 0 251 (dk_at dksJ12_append_2_1 20 rfl rfl)
theorem dJ12_append_2_47 : decode cJ12_append_2 47 = .ok (.pop, 1) := dk_87 (dk_at dksJ12_append_2_1 23 rfl rfl)
theorem dJ12_append_2_48 : decode cJ12_append_2 48 = .ok (.aload_n 0, 1) := dk_42 (dk_at dksJ12_append_2_2 0 rfl rfl)
theorem dJ12_append_2_49 : decode cJ12_append_2 49 = .ok (.iload_n 3, 1) := dk_29 (dk_at dksJ12_append_2_2 1 rfl rfl)
theorem dJ12_append_2_50 : decode cJ12_append_2 50 = .ok (.putfield 79, 3) := dk_181 0 79 (dk_at dksJ12_append_2_2 2 rfl rfl)
theorem dJ12_append_2_53 : decode cJ12_append_2 53 = .ok (.aload_n 0, 1) := dk_42 (dk_at dksJ12_append_2_2 5 rfl rfl)
theorem dJ12_append_2_54 : decode cJ12_append_2 54 = .ok (.areturn, 1) := dk_176 (dk_at dksJ12_append_2_2 6 rfl rfl)
abbrev cJ12_append_3 : ByteArray := prog_15_method_22_code
def yJ12_append_3 : MethodName := ⟨RJ12, "append", "(Ljava/lang/String;)Ljava/lang/AbstractStringBuilder;"⟩
def dkwJ12_append_3_1 : List UInt8 := [42, 42, 180, 0, 79, 43, 182, 0, 208, 42, 89, 180, 0, 79, 28, 96, 181, 0, 79, 42, 176]
abbrev dktJ12_append_3_1 : List UInt8 := dkwJ12_append_3_1 ++ []
def dkwJ12_append_3_0 : List UInt8 := [43, 199, 0, 8, 42, 182, 0, 204, 176, 43, 182, 0, 32, 61, 42, 42, 180, 0, 79, 28, 96, 182, 0, 100]
abbrev dktJ12_append_3_0 : List UInt8 := dkwJ12_append_3_0 ++ dktJ12_append_3_1
theorem dksJ12_append_3_0 : cJ12_append_3.data.toList.drop 0 = dktJ12_append_3_0 := by decide +kernel
theorem dksJ12_append_3_1 : cJ12_append_3.data.toList.drop 24 = dktJ12_append_3_1 := dk_seg dksJ12_append_3_0 24 rfl rfl
theorem dJ12_append_3_0 : decode cJ12_append_3 0 = .ok (.aload_n 1, 1) := dk_43 (dk_at dksJ12_append_3_0 0 rfl rfl)
theorem dJ12_append_3_1 : decode cJ12_append_3 1 = .ok (.ifnonnull 8, 3) := dk_199 0 8 (dk_at dksJ12_append_3_0 1 rfl rfl)
theorem dJ12_append_3_4 : decode cJ12_append_3 4 = .ok (.aload_n 0, 1) := dk_42 (dk_at dksJ12_append_3_0 4 rfl rfl)
theorem dJ12_append_3_5 : decode cJ12_append_3 5 = .ok (.invokevirtual 204, 3) := dk_182 0 204 (dk_at dksJ12_append_3_0 5 rfl rfl)
theorem dJ12_append_3_8 : decode cJ12_append_3 8 = .ok (.areturn, 1) := dk_176 (dk_at dksJ12_append_3_0 8 rfl rfl)
theorem dJ12_append_3_9 : decode cJ12_append_3 9 = .ok (.aload_n 1, 1) := dk_43 (dk_at dksJ12_append_3_0 9 rfl rfl)
theorem dJ12_append_3_10 : decode cJ12_append_3 10 = .ok (.invokevirtual 32, 3) := dk_182 0 32 (dk_at dksJ12_append_3_0 10 rfl rfl)
theorem dJ12_append_3_13 : decode cJ12_append_3 13 = .ok (.istore_n 2, 1) := dk_61 (dk_at dksJ12_append_3_0 13 rfl rfl)
theorem dJ12_append_3_14 : decode cJ12_append_3 14 = .ok (.aload_n 0, 1) := dk_42 (dk_at dksJ12_append_3_0 14 rfl rfl)
theorem dJ12_append_3_15 : decode cJ12_append_3 15 = .ok (.aload_n 0, 1) := dk_42 (dk_at dksJ12_append_3_0 15 rfl rfl)
theorem dJ12_append_3_16 : decode cJ12_append_3 16 = .ok (.getfield 79, 3) := dk_180 0 79 (dk_at dksJ12_append_3_0 16 rfl rfl)
theorem dJ12_append_3_19 : decode cJ12_append_3 19 = .ok (.iload_n 2, 1) := dk_28 (dk_at dksJ12_append_3_0 19 rfl rfl)
theorem dJ12_append_3_20 : decode cJ12_append_3 20 = .ok (.iadd, 1) := dk_96 (dk_at dksJ12_append_3_0 20 rfl rfl)
theorem dJ12_append_3_21 : decode cJ12_append_3 21 = .ok (.invokevirtual 100, 3) := dk_182 0 100 (dk_at dksJ12_append_3_0 21 rfl rfl)
theorem dJ12_append_3_24 : decode cJ12_append_3 24 = .ok (.aload_n 0, 1) := dk_42 (dk_at dksJ12_append_3_1 0 rfl rfl)
theorem dJ12_append_3_25 : decode cJ12_append_3 25 = .ok (.aload_n 0, 1) := dk_42 (dk_at dksJ12_append_3_1 1 rfl rfl)
theorem dJ12_append_3_26 : decode cJ12_append_3 26 = .ok (.getfield 79, 3) := dk_180 0 79 (dk_at dksJ12_append_3_1 2 rfl rfl)
theorem dJ12_append_3_29 : decode cJ12_append_3 29 = .ok (.aload_n 1, 1) := dk_43 (dk_at dksJ12_append_3_1 5 rfl rfl)
theorem dJ12_append_3_30 : decode cJ12_append_3 30 = .ok (.invokevirtual 208, 3) := dk_182 0 208 (dk_at dksJ12_append_3_1 6 rfl rfl)
theorem dJ12_append_3_33 : decode cJ12_append_3 33 = .ok (.aload_n 0, 1) := dk_42 (dk_at dksJ12_append_3_1 9 rfl rfl)
theorem dJ12_append_3_34 : decode cJ12_append_3 34 = .ok (.dup, 1) := dk_89 (dk_at dksJ12_append_3_1 10 rfl rfl)
theorem dJ12_append_3_35 : decode cJ12_append_3 35 = .ok (.getfield 79, 3) := dk_180 0 79 (dk_at dksJ12_append_3_1 11 rfl rfl)
theorem dJ12_append_3_38 : decode cJ12_append_3 38 = .ok (.iload_n 2, 1) := dk_28 (dk_at dksJ12_append_3_1 14 rfl rfl)
theorem dJ12_append_3_39 : decode cJ12_append_3 39 = .ok (.iadd, 1) := dk_96 (dk_at dksJ12_append_3_1 15 rfl rfl)
theorem dJ12_append_3_40 : decode cJ12_append_3 40 = .ok (.putfield 79, 3) := dk_181 0 79 (dk_at dksJ12_append_3_1 16 rfl rfl)
theorem dJ12_append_3_43 : decode cJ12_append_3 43 = .ok (.aload_n 0, 1) := dk_42 (dk_at dksJ12_append_3_1 19 rfl rfl)
theorem dJ12_append_3_44 : decode cJ12_append_3 44 = .ok (.areturn, 1) := dk_176 (dk_at dksJ12_append_3_1 20 rfl rfl)
abbrev cJ12_appendNull : ByteArray := prog_15_method_26_code
def yJ12_appendNull : MethodName := ⟨RJ12, "appendNull", "()Ljava/lang/AbstractStringBuilder;"⟩
def dkwJ12_appendNull_3 : List UInt8 := [184, 0, 226, 60, 42, 27, 181, 0, 79, 42, 176]
abbrev dktJ12_appendNull_3 : List UInt8 := dkwJ12_appendNull_3 ++ []
def dkwJ12_appendNull_2 : List UInt8 := [16, 108, 84, 44, 27, 132, 1, 1, 16, 108, 84, 167, 0, 17, 44, 27, 16, 110, 16, 117, 16, 108, 16, 108]
abbrev dktJ12_appendNull_2 : List UInt8 := dkwJ12_appendNull_2 ++ dktJ12_appendNull_3
def dkwJ12_appendNull_1 : List UInt8 := [153, 0, 38, 44, 27, 132, 1, 1, 16, 110, 84, 44, 27, 132, 1, 1, 16, 117, 84, 44, 27, 132, 1, 1]
abbrev dktJ12_appendNull_1 : List UInt8 := dkwJ12_appendNull_1 ++ dktJ12_appendNull_2
def dkwJ12_appendNull_0 : List UInt8 := [42, 42, 180, 0, 79, 7, 96, 182, 0, 100, 42, 180, 0, 79, 60, 42, 180, 0, 15, 77, 42, 182, 0, 83]
abbrev dktJ12_appendNull_0 : List UInt8 := dkwJ12_appendNull_0 ++ dktJ12_appendNull_1
theorem dksJ12_appendNull_0 : cJ12_appendNull.data.toList.drop 0 = dktJ12_appendNull_0 := by decide +kernel
theorem dksJ12_appendNull_1 : cJ12_appendNull.data.toList.drop 24 = dktJ12_appendNull_1 := dk_seg dksJ12_appendNull_0 24 rfl rfl
theorem dksJ12_appendNull_2 : cJ12_appendNull.data.toList.drop 48 = dktJ12_appendNull_2 := dk_seg dksJ12_appendNull_1 24 rfl rfl
theorem dksJ12_appendNull_3 : cJ12_appendNull.data.toList.drop 72 = dktJ12_appendNull_3 := dk_seg dksJ12_appendNull_2 24 rfl rfl
theorem dJ12_appendNull_0 : decode cJ12_appendNull 0 = .ok (.aload_n 0, 1) := dk_42 (dk_at dksJ12_appendNull_0 0 rfl rfl)
theorem dJ12_appendNull_1 : decode cJ12_appendNull 1 = .ok (.aload_n 0, 1) := dk_42 (dk_at dksJ12_appendNull_0 1 rfl rfl)
theorem dJ12_appendNull_2 : decode cJ12_appendNull 2 = .ok (.getfield 79, 3) := dk_180 0 79 (dk_at dksJ12_appendNull_0 2 rfl rfl)
theorem dJ12_appendNull_5 : decode cJ12_appendNull 5 = .ok (.iconst 4, 1) := dk_7 (dk_at dksJ12_appendNull_0 5 rfl rfl)
theorem dJ12_appendNull_6 : decode cJ12_appendNull 6 = .ok (.iadd, 1) := dk_96 (dk_at dksJ12_appendNull_0 6 rfl rfl)
theorem dJ12_appendNull_7 : decode cJ12_appendNull 7 = .ok (.invokevirtual 100, 3) := dk_182 0 100 (dk_at dksJ12_appendNull_0 7 rfl rfl)
theorem dJ12_appendNull_10 : decode cJ12_appendNull 10 = .ok (.aload_n 0, 1) := dk_42 (dk_at dksJ12_appendNull_0 10 rfl rfl)
theorem dJ12_appendNull_11 : decode cJ12_appendNull 11 = .ok (.getfield 79, 3) := dk_180 0 79 (dk_at dksJ12_appendNull_0 11 rfl rfl)
theorem dJ12_appendNull_14 : decode cJ12_appendNull 14 = .ok (.istore_n 1, 1) := dk_60 (dk_at dksJ12_appendNull_0 14 rfl rfl)
theorem dJ12_appendNull_15 : decode cJ12_appendNull 15 = .ok (.aload_n 0, 1) := dk_42 (dk_at dksJ12_appendNull_0 15 rfl rfl)
theorem dJ12_appendNull_16 : decode cJ12_appendNull 16 = .ok (.getfield 15, 3) := dk_180 0 15 (dk_at dksJ12_appendNull_0 16 rfl rfl)
theorem dJ12_appendNull_19 : decode cJ12_appendNull 19 = .ok (.astore_n 2, 1) := dk_77 (dk_at dksJ12_appendNull_0 19 rfl rfl)
theorem dJ12_appendNull_20 : decode cJ12_appendNull 20 = .ok (.aload_n 0, 1) := dk_42 (dk_at dksJ12_appendNull_0 20 rfl rfl)
theorem dJ12_appendNull_21 : decode cJ12_appendNull 21 = .ok (.invokevirtual 83, 3) := dk_182 0 83 (dk_at dksJ12_appendNull_0 21 rfl rfl)
theorem dJ12_appendNull_24 : decode cJ12_appendNull 24 = .ok (.ifCond .eq 38, 3) := dk_153 0 38 (dk_at dksJ12_appendNull_1 0 rfl rfl)
theorem dJ12_appendNull_27 : decode cJ12_appendNull 27 = .ok (.aload_n 2, 1) := dk_44 (dk_at dksJ12_appendNull_1 3 rfl rfl)
theorem dJ12_appendNull_28 : decode cJ12_appendNull 28 = .ok (.iload_n 1, 1) := dk_27 (dk_at dksJ12_appendNull_1 4 rfl rfl)
theorem dJ12_appendNull_29 : decode cJ12_appendNull 29 = .ok (.iinc 1 1, 3) := dk_132 1 1 (dk_at dksJ12_appendNull_1 5 rfl rfl)
theorem dJ12_appendNull_32 : decode cJ12_appendNull 32 = .ok (.bipush 110, 2) := dk_16 110 (dk_at dksJ12_appendNull_1 8 rfl rfl)
theorem dJ12_appendNull_34 : decode cJ12_appendNull 34 = .ok (.bastore, 1) := dk_84 (dk_at dksJ12_appendNull_1 10 rfl rfl)
theorem dJ12_appendNull_35 : decode cJ12_appendNull 35 = .ok (.aload_n 2, 1) := dk_44 (dk_at dksJ12_appendNull_1 11 rfl rfl)
theorem dJ12_appendNull_36 : decode cJ12_appendNull 36 = .ok (.iload_n 1, 1) := dk_27 (dk_at dksJ12_appendNull_1 12 rfl rfl)
theorem dJ12_appendNull_37 : decode cJ12_appendNull 37 = .ok (.iinc 1 1, 3) := dk_132 1 1 (dk_at dksJ12_appendNull_1 13 rfl rfl)
theorem dJ12_appendNull_40 : decode cJ12_appendNull 40 = .ok (.bipush 117, 2) := dk_16 117 (dk_at dksJ12_appendNull_1 16 rfl rfl)
theorem dJ12_appendNull_42 : decode cJ12_appendNull 42 = .ok (.bastore, 1) := dk_84 (dk_at dksJ12_appendNull_1 18 rfl rfl)
theorem dJ12_appendNull_43 : decode cJ12_appendNull 43 = .ok (.aload_n 2, 1) := dk_44 (dk_at dksJ12_appendNull_1 19 rfl rfl)
theorem dJ12_appendNull_44 : decode cJ12_appendNull 44 = .ok (.iload_n 1, 1) := dk_27 (dk_at dksJ12_appendNull_1 20 rfl rfl)
theorem dJ12_appendNull_45 : decode cJ12_appendNull 45 = .ok (.iinc 1 1, 3) := dk_132 1 1 (dk_at dksJ12_appendNull_1 21 rfl rfl)
theorem dJ12_appendNull_48 : decode cJ12_appendNull 48 = .ok (.bipush 108, 2) := dk_16 108 (dk_at dksJ12_appendNull_2 0 rfl rfl)
theorem dJ12_appendNull_50 : decode cJ12_appendNull 50 = .ok (.bastore, 1) := dk_84 (dk_at dksJ12_appendNull_2 2 rfl rfl)
theorem dJ12_appendNull_51 : decode cJ12_appendNull 51 = .ok (.aload_n 2, 1) := dk_44 (dk_at dksJ12_appendNull_2 3 rfl rfl)
theorem dJ12_appendNull_52 : decode cJ12_appendNull 52 = .ok (.iload_n 1, 1) := dk_27 (dk_at dksJ12_appendNull_2 4 rfl rfl)
theorem dJ12_appendNull_53 : decode cJ12_appendNull 53 = .ok (.iinc 1 1, 3) := dk_132 1 1 (dk_at dksJ12_appendNull_2 5 rfl rfl)
theorem dJ12_appendNull_56 : decode cJ12_appendNull 56 = .ok (.bipush 108, 2) := dk_16 108 (dk_at dksJ12_appendNull_2 8 rfl rfl)
theorem dJ12_appendNull_58 : decode cJ12_appendNull 58 = .ok (.bastore, 1) := dk_84 (dk_at dksJ12_appendNull_2 10 rfl rfl)
theorem dJ12_appendNull_59 : decode cJ12_appendNull 59 = .ok (.goto 17, 3) := dk_167 0 17 (dk_at dksJ12_appendNull_2 11 rfl rfl)
theorem dJ12_appendNull_62 : decode cJ12_appendNull 62 = .ok (.aload_n 2, 1) := dk_44 (dk_at dksJ12_appendNull_2 14 rfl rfl)
theorem dJ12_appendNull_63 : decode cJ12_appendNull 63 = .ok (.iload_n 1, 1) := dk_27 (dk_at dksJ12_appendNull_2 15 rfl rfl)
theorem dJ12_appendNull_64 : decode cJ12_appendNull 64 = .ok (.bipush 110, 2) := dk_16 110 (dk_at dksJ12_appendNull_2 16 rfl rfl)
theorem dJ12_appendNull_66 : decode cJ12_appendNull 66 = .ok (.bipush 117, 2) := dk_16 117 (dk_at dksJ12_appendNull_2 18 rfl rfl)
theorem dJ12_appendNull_68 : decode cJ12_appendNull 68 = .ok (.bipush 108, 2) := dk_16 108 (dk_at dksJ12_appendNull_2 20 rfl rfl)
theorem dJ12_appendNull_70 : decode cJ12_appendNull 70 = .ok (.bipush 108, 2) := dk_16 108 (dk_at dksJ12_appendNull_2 22 rfl rfl)
theorem dJ12_appendNull_72 : decode cJ12_appendNull 72 = .ok (.invokestatic 226, 3) := dk_184 0 226 (dk_at dksJ12_appendNull_3 0 rfl rfl)
theorem dJ12_appendNull_75 : decode cJ12_appendNull 75 = .ok (.istore_n 1, 1) := dk_60 (dk_at dksJ12_appendNull_3 3 rfl rfl)
theorem dJ12_appendNull_76 : decode cJ12_appendNull 76 = .ok (.aload_n 0, 1) := dk_42 (dk_at dksJ12_appendNull_3 4 rfl rfl)
theorem dJ12_appendNull_77 : decode cJ12_appendNull 77 = .ok (.iload_n 1, 1) := dk_27 (dk_at dksJ12_appendNull_3 5 rfl rfl)
theorem dJ12_appendNull_78 : decode cJ12_appendNull 78 = .ok (.putfield 79, 3) := dk_181 0 79 (dk_at dksJ12_appendNull_3 6 rfl rfl)
theorem dJ12_appendNull_81 : decode cJ12_appendNull 81 = .ok (.aload_n 0, 1) := dk_42 (dk_at dksJ12_appendNull_3 9 rfl rfl)
theorem dJ12_appendNull_82 : decode cJ12_appendNull 82 = .ok (.areturn, 1) := dk_176 (dk_at dksJ12_appendNull_3 10 rfl rfl)
abbrev cJ12_putStringAt : ByteArray := prog_15_method_73_code
def yJ12_putStringAt : MethodName := ⟨RJ12, "putStringAt", "(ILjava/lang/String;)V"⟩
def dkwJ12_putStringAt_0 : List UInt8 := [42, 44, 182, 1, 141, 44, 42, 180, 0, 15, 27, 42, 180, 0, 22, 182, 1, 143, 177]
abbrev dktJ12_putStringAt_0 : List UInt8 := dkwJ12_putStringAt_0 ++ []
theorem dksJ12_putStringAt_0 : cJ12_putStringAt.data.toList.drop 0 = dktJ12_putStringAt_0 := by decide +kernel
theorem dJ12_putStringAt_0 : decode cJ12_putStringAt 0 = .ok (.aload_n 0, 1) := dk_42 (dk_at dksJ12_putStringAt_0 0 rfl rfl)
theorem dJ12_putStringAt_1 : decode cJ12_putStringAt 1 = .ok (.aload_n 2, 1) := dk_44 (dk_at dksJ12_putStringAt_0 1 rfl rfl)
theorem dJ12_putStringAt_2 : decode cJ12_putStringAt 2 = .ok (.invokevirtual 397, 3) := dk_182 1 141 (dk_at dksJ12_putStringAt_0 2 rfl rfl)
theorem dJ12_putStringAt_5 : decode cJ12_putStringAt 5 = .ok (.aload_n 2, 1) := dk_44 (dk_at dksJ12_putStringAt_0 5 rfl rfl)
theorem dJ12_putStringAt_6 : decode cJ12_putStringAt 6 = .ok (.aload_n 0, 1) := dk_42 (dk_at dksJ12_putStringAt_0 6 rfl rfl)
theorem dJ12_putStringAt_7 : decode cJ12_putStringAt 7 = .ok (.getfield 15, 3) := dk_180 0 15 (dk_at dksJ12_putStringAt_0 7 rfl rfl)
theorem dJ12_putStringAt_10 : decode cJ12_putStringAt 10 = .ok (.iload_n 1, 1) := dk_27 (dk_at dksJ12_putStringAt_0 10 rfl rfl)
theorem dJ12_putStringAt_11 : decode cJ12_putStringAt 11 = .ok (.aload_n 0, 1) := dk_42 (dk_at dksJ12_putStringAt_0 11 rfl rfl)
theorem dJ12_putStringAt_12 : decode cJ12_putStringAt 12 = .ok (.getfield 22, 3) := dk_180 0 22 (dk_at dksJ12_putStringAt_0 12 rfl rfl)
theorem dJ12_putStringAt_15 : decode cJ12_putStringAt 15 = .ok (.invokevirtual 399, 3) := dk_182 1 143 (dk_at dksJ12_putStringAt_0 15 rfl rfl)
theorem dJ12_putStringAt_18 : decode cJ12_putStringAt 18 = .ok (.return_, 1) := dk_177 (dk_at dksJ12_putStringAt_0 18 rfl rfl)
abbrev cJ12_inflateIfNeededFor : ByteArray := prog_15_method_71_code
def yJ12_inflateIfNeededFor : MethodName := ⟨RJ12, "inflateIfNeededFor", "(Ljava/lang/String;)V"⟩
def dkwJ12_inflateIfNeededFor_0 : List UInt8 := [178, 0, 18, 153, 0, 18, 42, 180, 0, 22, 43, 182, 0, 40, 159, 0, 7, 42, 182, 0, 195, 177]
abbrev dktJ12_inflateIfNeededFor_0 : List UInt8 := dkwJ12_inflateIfNeededFor_0 ++ []
theorem dksJ12_inflateIfNeededFor_0 : cJ12_inflateIfNeededFor.data.toList.drop 0 = dktJ12_inflateIfNeededFor_0 := by decide +kernel
theorem dJ12_inflateIfNeededFor_0 : decode cJ12_inflateIfNeededFor 0 = .ok (.getstatic 18, 3) := dk_178 0 18 (dk_at dksJ12_inflateIfNeededFor_0 0 rfl rfl)
theorem dJ12_inflateIfNeededFor_3 : decode cJ12_inflateIfNeededFor 3 = .ok (.ifCond .eq 18, 3) := dk_153 0 18 (dk_at dksJ12_inflateIfNeededFor_0 3 rfl rfl)
theorem dJ12_inflateIfNeededFor_6 : decode cJ12_inflateIfNeededFor 6 = .ok (.aload_n 0, 1) := dk_42 (dk_at dksJ12_inflateIfNeededFor_0 6 rfl rfl)
theorem dJ12_inflateIfNeededFor_7 : decode cJ12_inflateIfNeededFor 7 = .ok (.getfield 22, 3) := dk_180 0 22 (dk_at dksJ12_inflateIfNeededFor_0 7 rfl rfl)
theorem dJ12_inflateIfNeededFor_10 : decode cJ12_inflateIfNeededFor 10 = .ok (.aload_n 1, 1) := dk_43 (dk_at dksJ12_inflateIfNeededFor_0 10 rfl rfl)
theorem dJ12_inflateIfNeededFor_11 : decode cJ12_inflateIfNeededFor 11 = .ok (.invokevirtual 40, 3) := dk_182 0 40 (dk_at dksJ12_inflateIfNeededFor_0 11 rfl rfl)
theorem dJ12_inflateIfNeededFor_14 : decode cJ12_inflateIfNeededFor 14 = .ok (.if_icmp .eq 7, 3) := dk_159 0 7 (dk_at dksJ12_inflateIfNeededFor_0 14 rfl rfl)
theorem dJ12_inflateIfNeededFor_17 : decode cJ12_inflateIfNeededFor 17 = .ok (.aload_n 0, 1) := dk_42 (dk_at dksJ12_inflateIfNeededFor_0 17 rfl rfl)
theorem dJ12_inflateIfNeededFor_18 : decode cJ12_inflateIfNeededFor 18 = .ok (.invokevirtual 195, 3) := dk_182 0 195 (dk_at dksJ12_inflateIfNeededFor_0 18 rfl rfl)
theorem dJ12_inflateIfNeededFor_21 : decode cJ12_inflateIfNeededFor 21 = .ok (.return_, 1) := dk_177 (dk_at dksJ12_inflateIfNeededFor_0 21 rfl rfl)
theorem q133 : (Jvm.Cond.initialized "java/lang/AbstractStringBuilder") ∈ lw_all := lw_g (lw_at lw_m1 18 rfl) rfl
theorem q782 : (Jvm.Cond.instanceMethod ({ cls := "java/lang/AbstractStringBuilder", name := "<init>", desc := "(I)V" } : Jvm.MethodName)) ∈ lw_all := lw_g (lw_at lw_m3 187 rfl) rfl
theorem q783 : (Jvm.Cond.code ({ cls := "java/lang/AbstractStringBuilder", name := "<init>", desc := "(I)V" } : Jvm.MethodName) prog_15_method_2_code (2 : Nat) (Option.none : Option Jvm.ClassFile.FieldType)) ∈ lw_all := lw_g (lw_at lw_m3 188 rfl) rfl
theorem q784 : (Jvm.Cond.methodLink "java/lang/AbstractStringBuilder" (3 : Nat) ({ cls := "java/lang/Object", name := "<init>", desc := "()V" } : Jvm.MethodName)) ∈ lw_all := lw_g (lw_at lw_m3 189 rfl) rfl
theorem q785 : (Jvm.Cond.fieldLink "java/lang/AbstractStringBuilder" (18 : Nat) "java/lang/String" "COMPACT_STRINGS" "Z") ∈ lw_all := lw_g (lw_at lw_m3 190 rfl) rfl
theorem q786 : (Jvm.Cond.methodLink "java/lang/AbstractStringBuilder" (26 : Nat) ({ cls := "java/lang/StringUTF16", name := "newBytesFor", desc := "(I)[B" } : Jvm.MethodName)) ∈ lw_all := lw_g (lw_at lw_m3 191 rfl) rfl
theorem q793 : (Jvm.Cond.fieldLink "java/lang/AbstractStringBuilder" (15 : Nat) "java/lang/AbstractStringBuilder" "value" "[B") ∈ lw_all := lw_g (lw_at lw_m3 198 rfl) rfl
theorem q794 : (Jvm.Cond.fieldLink "java/lang/AbstractStringBuilder" (22 : Nat) "java/lang/AbstractStringBuilder" "coder" "B") ∈ lw_all := lw_g (lw_at lw_m3 199 rfl) rfl
theorem q796 : (Jvm.Cond.fieldLink "java/lang/AbstractStringBuilder" (79 : Nat) "java/lang/AbstractStringBuilder" "count" "I") ∈ lw_all := lw_g (lw_at lw_m3 201 rfl) rfl
theorem q798 : (Jvm.Cond.soleField "java/lang/AbstractStringBuilder" "value") ∈ lw_all := lw_g (lw_at lw_m3 203 rfl) rfl
theorem q800 : (Jvm.Cond.soleField "java/lang/AbstractStringBuilder" "coder") ∈ lw_all := lw_g (lw_at lw_m3 205 rfl) rfl
theorem q802 : (Jvm.Cond.soleField "java/lang/AbstractStringBuilder" "maybeLatin1") ∈ lw_all := lw_g (lw_at lw_m3 207 rfl) rfl
theorem q804 : (Jvm.Cond.soleField "java/lang/AbstractStringBuilder" "count") ∈ lw_all := lw_g (lw_at lw_m3 209 rfl) rfl
theorem q811 : (Jvm.Cond.instanceMethod ({ cls := "java/lang/AbstractStringBuilder", name := "append", desc := "(C)Ljava/lang/AbstractStringBuilder;" } : Jvm.MethodName)) ∈ lw_all := lw_g (lw_at lw_m3 216 rfl) rfl
theorem q812 : (Jvm.Cond.code ({ cls := "java/lang/AbstractStringBuilder", name := "append", desc := "(C)Ljava/lang/AbstractStringBuilder;" } : Jvm.MethodName) prog_15_method_31_code (2 : Nat) (Option.some (Jvm.ClassFile.FieldType.object "java/lang/AbstractStringBuilder"))) ∈ lw_all := lw_g (lw_at lw_m3 217 rfl) rfl
theorem q813 : (Jvm.Cond.methodLink "java/lang/AbstractStringBuilder" (100 : Nat) ({ cls := "java/lang/AbstractStringBuilder", name := "ensureCapacityInternal", desc := "(I)V" } : Jvm.MethodName)) ∈ lw_all := lw_g (lw_at lw_m3 218 rfl) rfl
theorem q814 : (Jvm.Cond.privateMethod ({ cls := "java/lang/AbstractStringBuilder", name := "ensureCapacityInternal", desc := "(I)V" } : Jvm.MethodName)) ∈ lw_tbl := lw_at lw_m3 219 rfl
theorem q815 : (Jvm.Cond.instanceMethod ({ cls := "java/lang/AbstractStringBuilder", name := "ensureCapacityInternal", desc := "(I)V" } : Jvm.MethodName)) ∈ lw_all := lw_g (lw_at lw_m3 220 rfl) rfl
theorem q816 : (Jvm.Cond.code ({ cls := "java/lang/AbstractStringBuilder", name := "ensureCapacityInternal", desc := "(I)V" } : Jvm.MethodName) prog_15_method_9_code (3 : Nat) (Option.none : Option Jvm.ClassFile.FieldType)) ∈ lw_all := lw_g (lw_at lw_m3 221 rfl) rfl
theorem q817 : (Jvm.Cond.methodLink "java/lang/AbstractStringBuilder" (104 : Nat) ({ cls := "java/lang/AbstractStringBuilder", name := "newCapacity", desc := "(I)I" } : Jvm.MethodName)) ∈ lw_all := lw_g (lw_at lw_m3 222 rfl) rfl
theorem q818 : (Jvm.Cond.privateMethod ({ cls := "java/lang/AbstractStringBuilder", name := "newCapacity", desc := "(I)I" } : Jvm.MethodName)) ∈ lw_tbl := lw_at lw_m3 223 rfl
theorem q819 : (Jvm.Cond.instanceMethod ({ cls := "java/lang/AbstractStringBuilder", name := "newCapacity", desc := "(I)I" } : Jvm.MethodName)) ∈ lw_all := lw_g (lw_at lw_m3 224 rfl) rfl
theorem q820 : (Jvm.Cond.code ({ cls := "java/lang/AbstractStringBuilder", name := "newCapacity", desc := "(I)I" } : Jvm.MethodName) prog_15_method_10_code (6 : Nat) (Option.some Jvm.ClassFile.FieldType.int)) ∈ lw_all := lw_g (lw_at lw_m3 225 rfl) rfl
theorem q821 : (Jvm.Cond.methodLink "java/lang/AbstractStringBuilder" (114 : Nat) ({ cls := "jdk/internal/util/ArraysSupport", name := "newLength", desc := "(III)I" } : Jvm.MethodName)) ∈ lw_all := lw_g (lw_at lw_m3 226 rfl) rfl
theorem q829 : (Jvm.Cond.constant "java/lang/AbstractStringBuilder" (39 : Nat) (2147483647 : Int32)) ∈ lw_all := lw_g (lw_at lw_m3 234 rfl) rfl
theorem q830 : (Jvm.Cond.methodLink "java/lang/AbstractStringBuilder" (108 : Nat) ({ cls := "java/util/Arrays", name := "copyOf", desc := "([BI)[B" } : Jvm.MethodName)) ∈ lw_all := lw_g (lw_at lw_m3 235 rfl) rfl
theorem q842 : (Jvm.Cond.methodLink "java/lang/AbstractStringBuilder" (83 : Nat) ({ cls := "java/lang/AbstractStringBuilder", name := "isLatin1", desc := "()Z" } : Jvm.MethodName)) ∈ lw_all := lw_g (lw_at lw_m4 7 rfl) rfl
theorem q843 : (Jvm.Cond.instanceMethod ({ cls := "java/lang/AbstractStringBuilder", name := "isLatin1", desc := "()Z" } : Jvm.MethodName)) ∈ lw_all := lw_g (lw_at lw_m4 8 rfl) rfl
theorem q844 : (Jvm.Cond.sameMethod "java/lang/AbstractStringBuilder" "java/lang/AbstractStringBuilder" "isLatin1" "()Z") ∈ lw_all := lw_g (lw_at lw_m4 9 rfl) rfl
theorem q846 : (Jvm.Cond.code ({ cls := "java/lang/AbstractStringBuilder", name := "isLatin1", desc := "()Z" } : Jvm.MethodName) prog_15_method_68_code (1 : Nat) (Option.some Jvm.ClassFile.FieldType.boolean)) ∈ lw_all := lw_g (lw_at lw_m4 11 rfl) rfl
theorem q847 : (Jvm.Cond.methodLink "java/lang/AbstractStringBuilder" (191 : Nat) ({ cls := "java/lang/StringLatin1", name := "canEncode", desc := "(C)Z" } : Jvm.MethodName)) ∈ lw_all := lw_g (lw_at lw_m4 12 rfl) rfl
theorem q850 : (Jvm.Cond.methodLink "java/lang/AbstractStringBuilder" (195 : Nat) ({ cls := "java/lang/AbstractStringBuilder", name := "inflate", desc := "()V" } : Jvm.MethodName)) ∈ lw_all := lw_g (lw_at lw_m4 15 rfl) rfl
theorem q851 : (Jvm.Cond.privateMethod ({ cls := "java/lang/AbstractStringBuilder", name := "inflate", desc := "()V" } : Jvm.MethodName)) ∈ lw_tbl := lw_at lw_m4 16 rfl
theorem q852 : (Jvm.Cond.instanceMethod ({ cls := "java/lang/AbstractStringBuilder", name := "inflate", desc := "()V" } : Jvm.MethodName)) ∈ lw_all := lw_g (lw_at lw_m4 17 rfl) rfl
theorem q853 : (Jvm.Cond.code ({ cls := "java/lang/AbstractStringBuilder", name := "inflate", desc := "()V" } : Jvm.MethodName) prog_15_method_11_code (2 : Nat) (Option.none : Option Jvm.ClassFile.FieldType)) ∈ lw_all := lw_g (lw_at lw_m4 18 rfl) rfl
theorem q854 : (Jvm.Cond.methodLink "java/lang/AbstractStringBuilder" (125 : Nat) ({ cls := "java/lang/StringLatin1", name := "inflate", desc := "([BI[BII)V" } : Jvm.MethodName)) ∈ lw_all := lw_g (lw_at lw_m4 19 rfl) rfl
theorem q872 : (Jvm.Cond.methodLink "java/lang/AbstractStringBuilder" (197 : Nat) ({ cls := "java/lang/StringUTF16", name := "putCharSB", desc := "([BII)V" } : Jvm.MethodName)) ∈ lw_all := lw_g (lw_at lw_m4 37 rfl) rfl
theorem q889 : (Jvm.Cond.instanceMethod ({ cls := "java/lang/AbstractStringBuilder", name := "getValue", desc := "()[B" } : Jvm.MethodName)) ∈ lw_all := lw_g (lw_at lw_m4 54 rfl) rfl
theorem q890 : (Jvm.Cond.sameMethod "java/lang/AbstractStringBuilder" "java/lang/AbstractStringBuilder" "getValue" "()[B") ∈ lw_all := lw_g (lw_at lw_m4 55 rfl) rfl
theorem q892 : (Jvm.Cond.code ({ cls := "java/lang/AbstractStringBuilder", name := "getValue", desc := "()[B" } : Jvm.MethodName) prog_15_method_64_code (1 : Nat) (Option.some (Jvm.ClassFile.FieldType.array Jvm.ClassFile.FieldType.byte))) ∈ lw_all := lw_g (lw_at lw_m4 57 rfl) rfl
theorem q894 : (Jvm.Cond.instanceMethod ({ cls := "java/lang/AbstractStringBuilder", name := "length", desc := "()I" } : Jvm.MethodName)) ∈ lw_all := lw_g (lw_at lw_m4 59 rfl) rfl
theorem q895 : (Jvm.Cond.sameMethod "java/lang/AbstractStringBuilder" "java/lang/AbstractStringBuilder" "length" "()I") ∈ lw_all := lw_g (lw_at lw_m4 60 rfl) rfl
theorem q900 : (Jvm.Cond.code ({ cls := "java/lang/AbstractStringBuilder", name := "length", desc := "()I" } : Jvm.MethodName) prog_15_method_6_code (1 : Nat) (Option.some Jvm.ClassFile.FieldType.int)) ∈ lw_all := lw_g (lw_at lw_m4 65 rfl) rfl
theorem q927 : (Jvm.Cond.instanceMethod ({ cls := "java/lang/AbstractStringBuilder", name := "append", desc := "(I)Ljava/lang/AbstractStringBuilder;" } : Jvm.MethodName)) ∈ lw_all := lw_g (lw_at lw_m4 92 rfl) rfl
theorem q928 : (Jvm.Cond.code ({ cls := "java/lang/AbstractStringBuilder", name := "append", desc := "(I)Ljava/lang/AbstractStringBuilder;" } : Jvm.MethodName) prog_15_method_32_code (4 : Nat) (Option.some (Jvm.ClassFile.FieldType.object "java/lang/AbstractStringBuilder"))) ∈ lw_all := lw_g (lw_at lw_m4 93 rfl) rfl
theorem q929 : (Jvm.Cond.methodLink "java/lang/AbstractStringBuilder" (245 : Nat) ({ cls := "java/lang/Integer", name := "stringSize", desc := "(I)I" } : Jvm.MethodName)) ∈ lw_all := lw_g (lw_at lw_m4 94 rfl) rfl
theorem q932 : (Jvm.Cond.methodLink "java/lang/AbstractStringBuilder" (248 : Nat) ({ cls := "java/lang/Integer", name := "getChars", desc := "(II[B)I" } : Jvm.MethodName)) ∈ lw_all := lw_g (lw_at lw_m4 97 rfl) rfl
theorem q939 : (Jvm.Cond.methodLink "java/lang/AbstractStringBuilder" (251 : Nat) ({ cls := "java/lang/StringUTF16", name := "getChars", desc := "(III[B)I" } : Jvm.MethodName)) ∈ lw_all := lw_g (lw_at lw_m4 104 rfl) rfl
theorem q962 : (Jvm.Cond.instanceMethod ({ cls := "java/lang/AbstractStringBuilder", name := "append", desc := "(Ljava/lang/String;)Ljava/lang/AbstractStringBuilder;" } : Jvm.MethodName)) ∈ lw_all := lw_g (lw_at lw_m4 127 rfl) rfl
theorem q963 : (Jvm.Cond.code ({ cls := "java/lang/AbstractStringBuilder", name := "append", desc := "(Ljava/lang/String;)Ljava/lang/AbstractStringBuilder;" } : Jvm.MethodName) prog_15_method_22_code (3 : Nat) (Option.some (Jvm.ClassFile.FieldType.object "java/lang/AbstractStringBuilder"))) ∈ lw_all := lw_g (lw_at lw_m4 128 rfl) rfl
theorem q964 : (Jvm.Cond.methodLink "java/lang/AbstractStringBuilder" (204 : Nat) ({ cls := "java/lang/AbstractStringBuilder", name := "appendNull", desc := "()Ljava/lang/AbstractStringBuilder;" } : Jvm.MethodName)) ∈ lw_all := lw_g (lw_at lw_m4 129 rfl) rfl
theorem q965 : (Jvm.Cond.privateMethod ({ cls := "java/lang/AbstractStringBuilder", name := "appendNull", desc := "()Ljava/lang/AbstractStringBuilder;" } : Jvm.MethodName)) ∈ lw_tbl := lw_at lw_m4 130 rfl
theorem q966 : (Jvm.Cond.instanceMethod ({ cls := "java/lang/AbstractStringBuilder", name := "appendNull", desc := "()Ljava/lang/AbstractStringBuilder;" } : Jvm.MethodName)) ∈ lw_all := lw_g (lw_at lw_m4 131 rfl) rfl
theorem q967 : (Jvm.Cond.code ({ cls := "java/lang/AbstractStringBuilder", name := "appendNull", desc := "()Ljava/lang/AbstractStringBuilder;" } : Jvm.MethodName) prog_15_method_26_code (3 : Nat) (Option.some (Jvm.ClassFile.FieldType.object "java/lang/AbstractStringBuilder"))) ∈ lw_all := lw_g (lw_at lw_m4 132 rfl) rfl
theorem q968 : (Jvm.Cond.methodLink "java/lang/AbstractStringBuilder" (226 : Nat) ({ cls := "java/lang/StringUTF16", name := "putCharsAt", desc := "([BICCCC)I" } : Jvm.MethodName)) ∈ lw_all := lw_g (lw_at lw_m4 133 rfl) rfl
theorem q971 : (Jvm.Cond.methodLink "java/lang/AbstractStringBuilder" (32 : Nat) ({ cls := "java/lang/String", name := "length", desc := "()I" } : Jvm.MethodName)) ∈ lw_all := lw_g (lw_at lw_m4 136 rfl) rfl
theorem q972 : (Jvm.Cond.methodLink "java/lang/AbstractStringBuilder" (208 : Nat) ({ cls := "java/lang/AbstractStringBuilder", name := "putStringAt", desc := "(ILjava/lang/String;)V" } : Jvm.MethodName)) ∈ lw_all := lw_g (lw_at lw_m4 137 rfl) rfl
theorem q973 : (Jvm.Cond.privateMethod ({ cls := "java/lang/AbstractStringBuilder", name := "putStringAt", desc := "(ILjava/lang/String;)V" } : Jvm.MethodName)) ∈ lw_tbl := lw_at lw_m4 138 rfl
theorem q974 : (Jvm.Cond.instanceMethod ({ cls := "java/lang/AbstractStringBuilder", name := "putStringAt", desc := "(ILjava/lang/String;)V" } : Jvm.MethodName)) ∈ lw_all := lw_g (lw_at lw_m4 139 rfl) rfl
theorem q975 : (Jvm.Cond.code ({ cls := "java/lang/AbstractStringBuilder", name := "putStringAt", desc := "(ILjava/lang/String;)V" } : Jvm.MethodName) prog_15_method_73_code (3 : Nat) (Option.none : Option Jvm.ClassFile.FieldType)) ∈ lw_all := lw_g (lw_at lw_m4 140 rfl) rfl
theorem q976 : (Jvm.Cond.methodLink "java/lang/AbstractStringBuilder" (397 : Nat) ({ cls := "java/lang/AbstractStringBuilder", name := "inflateIfNeededFor", desc := "(Ljava/lang/String;)V" } : Jvm.MethodName)) ∈ lw_all := lw_g (lw_at lw_m4 141 rfl) rfl
theorem q977 : (Jvm.Cond.privateMethod ({ cls := "java/lang/AbstractStringBuilder", name := "inflateIfNeededFor", desc := "(Ljava/lang/String;)V" } : Jvm.MethodName)) ∈ lw_tbl := lw_at lw_m4 142 rfl
theorem q978 : (Jvm.Cond.instanceMethod ({ cls := "java/lang/AbstractStringBuilder", name := "inflateIfNeededFor", desc := "(Ljava/lang/String;)V" } : Jvm.MethodName)) ∈ lw_all := lw_g (lw_at lw_m4 143 rfl) rfl
theorem q979 : (Jvm.Cond.code ({ cls := "java/lang/AbstractStringBuilder", name := "inflateIfNeededFor", desc := "(Ljava/lang/String;)V" } : Jvm.MethodName) prog_15_method_71_code (2 : Nat) (Option.none : Option Jvm.ClassFile.FieldType)) ∈ lw_all := lw_g (lw_at lw_m4 144 rfl) rfl
theorem q980 : (Jvm.Cond.methodLink "java/lang/AbstractStringBuilder" (40 : Nat) ({ cls := "java/lang/String", name := "coder", desc := "()B" } : Jvm.MethodName)) ∈ lw_all := lw_g (lw_at lw_m4 145 rfl) rfl
theorem q981 : (Jvm.Cond.methodLink "java/lang/AbstractStringBuilder" (399 : Nat) ({ cls := "java/lang/String", name := "getBytes", desc := "([BIB)V" } : Jvm.MethodName)) ∈ lw_all := lw_g (lw_at lw_m4 146 rfl) rfl
theorem q2836 : (Jvm.Cond.sameMethod "java/lang/AbstractStringBuilder" "java/lang/AbstractStringBuilder" "append" "(C)Ljava/lang/AbstractStringBuilder;") ∈ lw_all := lw_g (lw_at lw_m12 81 rfl) rfl
theorem q2837 : (Jvm.Cond.sameMethod "java/lang/AbstractStringBuilder" "java/lang/AbstractStringBuilder" "ensureCapacityInternal" "(I)V") ∈ lw_all := lw_g (lw_at lw_m12 82 rfl) rfl
theorem q2838 : (Jvm.Cond.sameMethod "java/lang/AbstractStringBuilder" "java/lang/AbstractStringBuilder" "newCapacity" "(I)I") ∈ lw_all := lw_g (lw_at lw_m12 83 rfl) rfl
theorem q2839 : (Jvm.Cond.sameMethod "java/lang/AbstractStringBuilder" "java/lang/AbstractStringBuilder" "inflate" "()V") ∈ lw_all := lw_g (lw_at lw_m12 84 rfl) rfl
theorem q2840 : (Jvm.Cond.sameMethod "java/lang/AbstractStringBuilder" "java/lang/AbstractStringBuilder" "append" "(I)Ljava/lang/AbstractStringBuilder;") ∈ lw_all := lw_g (lw_at lw_m12 85 rfl) rfl
theorem q2841 : (Jvm.Cond.sameMethod "java/lang/AbstractStringBuilder" "java/lang/AbstractStringBuilder" "append" "(Ljava/lang/String;)Ljava/lang/AbstractStringBuilder;") ∈ lw_all := lw_g (lw_at lw_m12 86 rfl) rfl
theorem q2842 : (Jvm.Cond.sameMethod "java/lang/AbstractStringBuilder" "java/lang/AbstractStringBuilder" "appendNull" "()Ljava/lang/AbstractStringBuilder;") ∈ lw_all := lw_g (lw_at lw_m12 87 rfl) rfl
theorem q2843 : (Jvm.Cond.sameMethod "java/lang/AbstractStringBuilder" "java/lang/AbstractStringBuilder" "putStringAt" "(ILjava/lang/String;)V") ∈ lw_all := lw_g (lw_at lw_m12 88 rfl) rfl
theorem q2844 : (Jvm.Cond.sameMethod "java/lang/AbstractStringBuilder" "java/lang/AbstractStringBuilder" "inflateIfNeededFor" "(Ljava/lang/String;)V") ∈ lw_all := lw_g (lw_at lw_m12 89 rfl) rfl
/-! java/lang/StringBuilder -/
set_option maxRecDepth 100000
def RJ13 : String := "java/lang/StringBuilder"
def TJ13 : u_T := fun k => match k with
  | 0 => ("java/lang/AbstractStringBuilder", "value", "[B", false)
  | 1 => ("java/lang/AbstractStringBuilder", "coder", "B", false)
  | 2 => ("java/lang/AbstractStringBuilder", "maybeLatin1", "Z", false)
  | _ => ("java/lang/AbstractStringBuilder", "count", "I", false)
def tyJ13 : Nat → FieldType := fun k => match k with
  | 0 => .array .byte
  | 1 => .byte
  | 2 => .boolean
  | _ => .int
abbrev wsJ130 : List Cond := u_ws RJ13 TJ13 4
theorem nmJ13 : ∀ a, a < 4 → ∀ b, b < 4 → a ≠ b → (TJ13 a).2.1 ≠ (TJ13 b).2.1 := by decide +kernel
theorem tyJ13_ok : ∀ k, k < 4 → parseFieldDescriptor (TJ13 k).2.2.1 = some (tyJ13 k) := by decide +kernel
abbrev cJ13_init : ByteArray := prog_33_method_1_code
def yJ13_init : MethodName := ⟨RJ13, "<init>", "()V"⟩
def dkwJ13_init_0 : List UInt8 := [42, 16, 16, 183, 0, 1, 177]
abbrev dktJ13_init_0 : List UInt8 := dkwJ13_init_0 ++ []
theorem dksJ13_init_0 : cJ13_init.data.toList.drop 0 = dktJ13_init_0 := by decide +kernel
theorem dJ13_init_0 : decode cJ13_init 0 = .ok (.aload_n 0, 1) := dk_42 (dk_at dksJ13_init_0 0 rfl rfl)
theorem dJ13_init_1 : decode cJ13_init 1 = .ok (.bipush 16, 2) := dk_16 16 (dk_at dksJ13_init_0 1 rfl rfl)
theorem dJ13_init_3 : decode cJ13_init 3 = .ok (.invokespecial 1, 3) := dk_183 0 1 (dk_at dksJ13_init_0 3 rfl rfl)
theorem dJ13_init_6 : decode cJ13_init 6 = .ok (.return_, 1) := dk_177 (dk_at dksJ13_init_0 6 rfl rfl)
abbrev cJ13_append : ByteArray := prog_33_method_14_code
def yJ13_append : MethodName := ⟨RJ13, "append", "(C)Ljava/lang/StringBuilder;"⟩
def dkwJ13_append_0 : List UInt8 := [42, 27, 183, 0, 50, 87, 42, 176]
abbrev dktJ13_append_0 : List UInt8 := dkwJ13_append_0 ++ []
theorem dksJ13_append_0 : cJ13_append.data.toList.drop 0 = dktJ13_append_0 := by decide +kernel
theorem dJ13_append_0 : decode cJ13_append 0 = .ok (.aload_n 0, 1) := dk_42 (dk_at dksJ13_append_0 0 rfl rfl)
theorem dJ13_append_1 : decode cJ13_append 1 = .ok (.iload_n 1, 1) := dk_27 (dk_at dksJ13_append_0 1 rfl rfl)
theorem dJ13_append_2 : decode cJ13_append 2 = .ok (.invokespecial 50, 3) := dk_183 0 50 (dk_at dksJ13_append_0 2 rfl rfl)
theorem dJ13_append_5 : decode cJ13_append 5 = .ok (.pop, 1) := dk_87 (dk_at dksJ13_append_0 5 rfl rfl)
theorem dJ13_append_6 : decode cJ13_append 6 = .ok (.aload_n 0, 1) := dk_42 (dk_at dksJ13_append_0 6 rfl rfl)
theorem dJ13_append_7 : decode cJ13_append 7 = .ok (.areturn, 1) := dk_176 (dk_at dksJ13_append_0 7 rfl rfl)
abbrev cJ13_toString : ByteArray := prog_33_method_42_code
def yJ13_toString : MethodName := ⟨RJ13, "toString", "()Ljava/lang/String;"⟩
def dkwJ13_toString_0 : List UInt8 := [187, 0, 18, 89, 42, 183, 0, 137, 176]
abbrev dktJ13_toString_0 : List UInt8 := dkwJ13_toString_0 ++ []
theorem dksJ13_toString_0 : cJ13_toString.data.toList.drop 0 = dktJ13_toString_0 := by decide +kernel
theorem dJ13_toString_0 : decode cJ13_toString 0 = .ok (.new 18, 3) := dk_187 0 18 (dk_at dksJ13_toString_0 0 rfl rfl)
theorem dJ13_toString_3 : decode cJ13_toString 3 = .ok (.dup, 1) := dk_89 (dk_at dksJ13_toString_0 3 rfl rfl)
theorem dJ13_toString_4 : decode cJ13_toString 4 = .ok (.aload_n 0, 1) := dk_42 (dk_at dksJ13_toString_0 4 rfl rfl)
theorem dJ13_toString_5 : decode cJ13_toString 5 = .ok (.invokespecial 137, 3) := dk_183 0 137 (dk_at dksJ13_toString_0 5 rfl rfl)
theorem dJ13_toString_8 : decode cJ13_toString 8 = .ok (.areturn, 1) := dk_176 (dk_at dksJ13_toString_0 8 rfl rfl)
abbrev cJ13_length : ByteArray := prog_33_method_93_code
def yJ13_length : MethodName := ⟨RJ13, "length", "()I"⟩
theorem dJ13_length_0 : decode cJ13_length 0 = .ok (.aload_n 0, 1) := by decide +kernel
theorem dJ13_length_1 : decode cJ13_length 1 = .ok (.invokespecial 343, 3) := by decide +kernel
theorem dJ13_length_4 : decode cJ13_length 4 = .ok (.ireturn, 1) := by decide +kernel
abbrev cJ13_append_2 : ByteArray := prog_33_method_15_code
def yJ13_append_2 : MethodName := ⟨RJ13, "append", "(I)Ljava/lang/StringBuilder;"⟩
def dkwJ13_append_2_0 : List UInt8 := [42, 27, 183, 0, 53, 87, 42, 176]
abbrev dktJ13_append_2_0 : List UInt8 := dkwJ13_append_2_0 ++ []
theorem dksJ13_append_2_0 : cJ13_append_2.data.toList.drop 0 = dktJ13_append_2_0 := by decide +kernel
theorem dJ13_append_2_0 : decode cJ13_append_2 0 = .ok (.aload_n 0, 1) := dk_42 (dk_at dksJ13_append_2_0 0 rfl rfl)
theorem dJ13_append_2_1 : decode cJ13_append_2 1 = .ok (.iload_n 1, 1) := dk_27 (dk_at dksJ13_append_2_0 1 rfl rfl)
theorem dJ13_append_2_2 : decode cJ13_append_2 2 = .ok (.invokespecial 53, 3) := dk_183 0 53 (dk_at dksJ13_append_2_0 2 rfl rfl)
theorem dJ13_append_2_5 : decode cJ13_append_2 5 = .ok (.pop, 1) := dk_87 (dk_at dksJ13_append_2_0 5 rfl rfl)
theorem dJ13_append_2_6 : decode cJ13_append_2 6 = .ok (.aload_n 0, 1) := dk_42 (dk_at dksJ13_append_2_0 6 rfl rfl)
theorem dJ13_append_2_7 : decode cJ13_append_2 7 = .ok (.areturn, 1) := dk_176 (dk_at dksJ13_append_2_0 7 rfl rfl)
abbrev cJ13_append_3 : ByteArray := prog_33_method_7_code
def yJ13_append_3 : MethodName := ⟨RJ13, "append", "(Ljava/lang/String;)Ljava/lang/StringBuilder;"⟩
def dkwJ13_append_3_0 : List UInt8 := [42, 43, 183, 0, 29, 87, 42, 176]
abbrev dktJ13_append_3_0 : List UInt8 := dkwJ13_append_3_0 ++ []
theorem dksJ13_append_3_0 : cJ13_append_3.data.toList.drop 0 = dktJ13_append_3_0 := by decide +kernel
theorem dJ13_append_3_0 : decode cJ13_append_3 0 = .ok (.aload_n 0, 1) := dk_42 (dk_at dksJ13_append_3_0 0 rfl rfl)
theorem dJ13_append_3_1 : decode cJ13_append_3 1 = .ok (.aload_n 1, 1) := dk_43 (dk_at dksJ13_append_3_0 1 rfl rfl)
theorem dJ13_append_3_2 : decode cJ13_append_3 2 = .ok (.invokespecial 29, 3) := dk_183 0 29 (dk_at dksJ13_append_3_0 2 rfl rfl)
theorem dJ13_append_3_5 : decode cJ13_append_3 5 = .ok (.pop, 1) := dk_87 (dk_at dksJ13_append_3_0 5 rfl rfl)
theorem dJ13_append_3_6 : decode cJ13_append_3 6 = .ok (.aload_n 0, 1) := dk_42 (dk_at dksJ13_append_3_0 6 rfl rfl)
theorem dJ13_append_3_7 : decode cJ13_append_3 7 = .ok (.areturn, 1) := dk_176 (dk_at dksJ13_append_3_0 7 rfl rfl)
theorem q134 : (Jvm.Cond.initialized "java/lang/StringBuilder") ∈ lw_all := lw_g (lw_at lw_m1 19 rfl) rfl
theorem q681 : (Jvm.Cond.selects "java/lang/StringBuilder" ({ cls := "java/lang/Object", name := "getClass", desc := "()Ljava/lang/Class;" } : Jvm.MethodName) ({ cls := "java/lang/Object", name := "getClass", desc := "()Ljava/lang/Class;" } : Jvm.MethodName)) ∈ lw_all := lw_g (lw_at lw_m3 86 rfl) rfl
theorem q777 : (Jvm.Cond.instantiable "java/lang/StringBuilder" (4 : Nat)) ∈ lw_all := lw_g (lw_at lw_m3 182 rfl) rfl
theorem q779 : (Jvm.Cond.instanceMethod ({ cls := "java/lang/StringBuilder", name := "<init>", desc := "()V" } : Jvm.MethodName)) ∈ lw_all := lw_g (lw_at lw_m3 184 rfl) rfl
theorem q780 : (Jvm.Cond.code ({ cls := "java/lang/StringBuilder", name := "<init>", desc := "()V" } : Jvm.MethodName) prog_33_method_1_code (1 : Nat) (Option.none : Option Jvm.ClassFile.FieldType)) ∈ lw_all := lw_g (lw_at lw_m3 185 rfl) rfl
theorem q781 : (Jvm.Cond.methodLink "java/lang/StringBuilder" (1 : Nat) ({ cls := "java/lang/AbstractStringBuilder", name := "<init>", desc := "(I)V" } : Jvm.MethodName)) ∈ lw_all := lw_g (lw_at lw_m3 186 rfl) rfl
theorem q797 : (Jvm.Cond.lays "java/lang/StringBuilder" "java/lang/AbstractStringBuilder" "value" "[B") ∈ lw_all := lw_g (lw_at lw_m3 202 rfl) rfl
theorem q799 : (Jvm.Cond.lays "java/lang/StringBuilder" "java/lang/AbstractStringBuilder" "coder" "B") ∈ lw_all := lw_g (lw_at lw_m3 204 rfl) rfl
theorem q801 : (Jvm.Cond.lays "java/lang/StringBuilder" "java/lang/AbstractStringBuilder" "maybeLatin1" "Z") ∈ lw_all := lw_g (lw_at lw_m3 206 rfl) rfl
theorem q803 : (Jvm.Cond.lays "java/lang/StringBuilder" "java/lang/AbstractStringBuilder" "count" "I") ∈ lw_all := lw_g (lw_at lw_m3 208 rfl) rfl
theorem q805 : (Jvm.Cond.superclass "java/lang/StringBuilder" "java/lang/AbstractStringBuilder") ∈ lw_all := lw_g (lw_at lw_m3 210 rfl) rfl
theorem q807 : (Jvm.Cond.instanceMethod ({ cls := "java/lang/StringBuilder", name := "append", desc := "(C)Ljava/lang/StringBuilder;" } : Jvm.MethodName)) ∈ lw_all := lw_g (lw_at lw_m3 212 rfl) rfl
theorem q808 : (Jvm.Cond.selects "java/lang/StringBuilder" ({ cls := "java/lang/StringBuilder", name := "append", desc := "(C)Ljava/lang/StringBuilder;" } : Jvm.MethodName) ({ cls := "java/lang/StringBuilder", name := "append", desc := "(C)Ljava/lang/StringBuilder;" } : Jvm.MethodName)) ∈ lw_all := lw_g (lw_at lw_m3 213 rfl) rfl
theorem q809 : (Jvm.Cond.code ({ cls := "java/lang/StringBuilder", name := "append", desc := "(C)Ljava/lang/StringBuilder;" } : Jvm.MethodName) prog_33_method_14_code (2 : Nat) (Option.some (Jvm.ClassFile.FieldType.object "java/lang/StringBuilder"))) ∈ lw_all := lw_g (lw_at lw_m3 214 rfl) rfl
theorem q810 : (Jvm.Cond.methodLink "java/lang/StringBuilder" (50 : Nat) ({ cls := "java/lang/AbstractStringBuilder", name := "append", desc := "(C)Ljava/lang/AbstractStringBuilder;" } : Jvm.MethodName)) ∈ lw_all := lw_g (lw_at lw_m3 215 rfl) rfl
theorem q845 : (Jvm.Cond.selects "java/lang/StringBuilder" ({ cls := "java/lang/AbstractStringBuilder", name := "isLatin1", desc := "()Z" } : Jvm.MethodName) ({ cls := "java/lang/AbstractStringBuilder", name := "isLatin1", desc := "()Z" } : Jvm.MethodName)) ∈ lw_all := lw_g (lw_at lw_m4 10 rfl) rfl
theorem q876 : (Jvm.Cond.instanceMethod ({ cls := "java/lang/StringBuilder", name := "toString", desc := "()Ljava/lang/String;" } : Jvm.MethodName)) ∈ lw_all := lw_g (lw_at lw_m4 41 rfl) rfl
theorem q877 : (Jvm.Cond.selects "java/lang/StringBuilder" ({ cls := "java/lang/StringBuilder", name := "toString", desc := "()Ljava/lang/String;" } : Jvm.MethodName) ({ cls := "java/lang/StringBuilder", name := "toString", desc := "()Ljava/lang/String;" } : Jvm.MethodName)) ∈ lw_all := lw_g (lw_at lw_m4 42 rfl) rfl
theorem q878 : (Jvm.Cond.code ({ cls := "java/lang/StringBuilder", name := "toString", desc := "()Ljava/lang/String;" } : Jvm.MethodName) prog_33_method_42_code (1 : Nat) (Option.some (Jvm.ClassFile.FieldType.object "java/lang/String"))) ∈ lw_all := lw_g (lw_at lw_m4 43 rfl) rfl
theorem q879 : (Jvm.Cond.classLink "java/lang/StringBuilder" (18 : Nat) "java/lang/String") ∈ lw_all := lw_g (lw_at lw_m4 44 rfl) rfl
theorem q881 : (Jvm.Cond.methodLink "java/lang/StringBuilder" (137 : Nat) ({ cls := "java/lang/String", name := "<init>", desc := "(Ljava/lang/StringBuilder;)V" } : Jvm.MethodName)) ∈ lw_all := lw_g (lw_at lw_m4 46 rfl) rfl
theorem q891 : (Jvm.Cond.selects "java/lang/StringBuilder" ({ cls := "java/lang/AbstractStringBuilder", name := "getValue", desc := "()[B" } : Jvm.MethodName) ({ cls := "java/lang/AbstractStringBuilder", name := "getValue", desc := "()[B" } : Jvm.MethodName)) ∈ lw_all := lw_g (lw_at lw_m4 56 rfl) rfl
theorem q896 : (Jvm.Cond.selects "java/lang/StringBuilder" ({ cls := "java/lang/AbstractStringBuilder", name := "length", desc := "()I" } : Jvm.MethodName) ({ cls := "java/lang/StringBuilder", name := "length", desc := "()I" } : Jvm.MethodName)) ∈ lw_all := lw_g (lw_at lw_m4 61 rfl) rfl
theorem q897 : (Jvm.Cond.instanceMethod ({ cls := "java/lang/StringBuilder", name := "length", desc := "()I" } : Jvm.MethodName)) ∈ lw_all := lw_g (lw_at lw_m4 62 rfl) rfl
theorem q898 : (Jvm.Cond.code ({ cls := "java/lang/StringBuilder", name := "length", desc := "()I" } : Jvm.MethodName) prog_33_method_93_code (1 : Nat) (Option.some Jvm.ClassFile.FieldType.int)) ∈ lw_all := lw_g (lw_at lw_m4 63 rfl) rfl
theorem q899 : (Jvm.Cond.methodLink "java/lang/StringBuilder" (343 : Nat) ({ cls := "java/lang/AbstractStringBuilder", name := "length", desc := "()I" } : Jvm.MethodName)) ∈ lw_all := lw_g (lw_at lw_m4 64 rfl) rfl
theorem q923 : (Jvm.Cond.instanceMethod ({ cls := "java/lang/StringBuilder", name := "append", desc := "(I)Ljava/lang/StringBuilder;" } : Jvm.MethodName)) ∈ lw_all := lw_g (lw_at lw_m4 88 rfl) rfl
theorem q924 : (Jvm.Cond.selects "java/lang/StringBuilder" ({ cls := "java/lang/StringBuilder", name := "append", desc := "(I)Ljava/lang/StringBuilder;" } : Jvm.MethodName) ({ cls := "java/lang/StringBuilder", name := "append", desc := "(I)Ljava/lang/StringBuilder;" } : Jvm.MethodName)) ∈ lw_all := lw_g (lw_at lw_m4 89 rfl) rfl
theorem q925 : (Jvm.Cond.code ({ cls := "java/lang/StringBuilder", name := "append", desc := "(I)Ljava/lang/StringBuilder;" } : Jvm.MethodName) prog_33_method_15_code (2 : Nat) (Option.some (Jvm.ClassFile.FieldType.object "java/lang/StringBuilder"))) ∈ lw_all := lw_g (lw_at lw_m4 90 rfl) rfl
theorem q926 : (Jvm.Cond.methodLink "java/lang/StringBuilder" (53 : Nat) ({ cls := "java/lang/AbstractStringBuilder", name := "append", desc := "(I)Ljava/lang/AbstractStringBuilder;" } : Jvm.MethodName)) ∈ lw_all := lw_g (lw_at lw_m4 91 rfl) rfl
theorem q958 : (Jvm.Cond.instanceMethod ({ cls := "java/lang/StringBuilder", name := "append", desc := "(Ljava/lang/String;)Ljava/lang/StringBuilder;" } : Jvm.MethodName)) ∈ lw_all := lw_g (lw_at lw_m4 123 rfl) rfl
theorem q959 : (Jvm.Cond.selects "java/lang/StringBuilder" ({ cls := "java/lang/StringBuilder", name := "append", desc := "(Ljava/lang/String;)Ljava/lang/StringBuilder;" } : Jvm.MethodName) ({ cls := "java/lang/StringBuilder", name := "append", desc := "(Ljava/lang/String;)Ljava/lang/StringBuilder;" } : Jvm.MethodName)) ∈ lw_all := lw_g (lw_at lw_m4 124 rfl) rfl
theorem q960 : (Jvm.Cond.code ({ cls := "java/lang/StringBuilder", name := "append", desc := "(Ljava/lang/String;)Ljava/lang/StringBuilder;" } : Jvm.MethodName) prog_33_method_7_code (2 : Nat) (Option.some (Jvm.ClassFile.FieldType.object "java/lang/StringBuilder"))) ∈ lw_all := lw_g (lw_at lw_m4 125 rfl) rfl
theorem q961 : (Jvm.Cond.methodLink "java/lang/StringBuilder" (29 : Nat) ({ cls := "java/lang/AbstractStringBuilder", name := "append", desc := "(Ljava/lang/String;)Ljava/lang/AbstractStringBuilder;" } : Jvm.MethodName)) ∈ lw_all := lw_g (lw_at lw_m4 126 rfl) rfl
theorem q1207 : (Jvm.Cond.selects "java/lang/StringBuilder" ({ cls := "java/lang/Object", name := "equals", desc := "(Ljava/lang/Object;)Z" } : Jvm.MethodName) ({ cls := "java/lang/Object", name := "equals", desc := "(Ljava/lang/Object;)Z" } : Jvm.MethodName)) ∈ lw_all := lw_g (lw_at lw_m5 132 rfl) rfl
theorem q2862 : (Jvm.Cond.castable "java/lang/StringBuilder" "java/lang/Object") ∈ lw_tbl := lw_at lw_m12 107 rfl
theorem in_J13 : ∀ w ∈ wsJ130, w ∈ lw_all := lw_in wsJ130 [797, 799, 801, 803] (by decide +kernel) (by decide +kernel)
/-! java/lang/String -/
set_option maxRecDepth 100000
def RJ14 : String := "java/lang/String"
def TJ14 : u_T := fun k => match k with
  | 0 => ("java/lang/String", "value", "[B", true)
  | 1 => ("java/lang/String", "coder", "B", true)
  | 2 => ("java/lang/String", "hash", "I", false)
  | _ => ("java/lang/String", "hashIsZero", "Z", false)
def tyJ14 : Nat → FieldType := fun k => match k with
  | 0 => .array .byte
  | 1 => .byte
  | 2 => .int
  | _ => .boolean
abbrev wsJ140 : List Cond := u_ws RJ14 TJ14 4
theorem nmJ14 : ∀ a, a < 4 → ∀ b, b < 4 → a ≠ b → (TJ14 a).2.1 ≠ (TJ14 b).2.1 := by decide +kernel
theorem tyJ14_ok : ∀ k, k < 4 → parseFieldDescriptor (TJ14 k).2.2.1 = some (tyJ14 k) := by decide +kernel
abbrev cJ14_length : ByteArray := prog_32_method_54_code
def yJ14_length : MethodName := ⟨RJ14, "length", "()I"⟩
def dkwJ14_length_0 : List UInt8 := [42, 180, 0, 9, 190, 42, 182, 1, 79, 122, 172]
abbrev dktJ14_length_0 : List UInt8 := dkwJ14_length_0 ++ []
theorem dksJ14_length_0 : cJ14_length.data.toList.drop 0 = dktJ14_length_0 := by decide +kernel
theorem dJ14_length_0 : decode cJ14_length 0 = .ok (.aload_n 0, 1) := dk_42 (dk_at dksJ14_length_0 0 rfl rfl)
theorem dJ14_length_1 : decode cJ14_length 1 = .ok (.getfield 9, 3) := dk_180 0 9 (dk_at dksJ14_length_0 1 rfl rfl)
theorem dJ14_length_4 : decode cJ14_length 4 = .ok (.arraylength, 1) := dk_190 (dk_at dksJ14_length_0 4 rfl rfl)
theorem dJ14_length_5 : decode cJ14_length 5 = .ok (.aload_n 0, 1) := dk_42 (dk_at dksJ14_length_0 5 rfl rfl)
theorem dJ14_length_6 : decode cJ14_length 6 = .ok (.invokevirtual 335, 3) := dk_182 1 79 (dk_at dksJ14_length_0 6 rfl rfl)
theorem dJ14_length_9 : decode cJ14_length 9 = .ok (.ishr, 1) := dk_122 (dk_at dksJ14_length_0 9 rfl rfl)
theorem dJ14_length_10 : decode cJ14_length 10 = .ok (.ireturn, 1) := dk_172 (dk_at dksJ14_length_0 10 rfl rfl)
abbrev cJ14_coder : ByteArray := prog_32_method_152_code
def yJ14_coder : MethodName := ⟨RJ14, "coder", "()B"⟩
def dkwJ14_coder_0 : List UInt8 := [178, 0, 38, 153, 0, 10, 42, 180, 0, 15, 167, 0, 4, 4, 172]
abbrev dktJ14_coder_0 : List UInt8 := dkwJ14_coder_0 ++ []
theorem dksJ14_coder_0 : cJ14_coder.data.toList.drop 0 = dktJ14_coder_0 := by decide +kernel
theorem dJ14_coder_0 : decode cJ14_coder 0 = .ok (.getstatic 38, 3) := dk_178 0 38 (dk_at dksJ14_coder_0 0 rfl rfl)
theorem dJ14_coder_3 : decode cJ14_coder 3 = .ok (.ifCond .eq 10, 3) := dk_153 0 10 (dk_at dksJ14_coder_0 3 rfl rfl)
theorem dJ14_coder_6 : decode cJ14_coder 6 = .ok (.aload_n 0, 1) := dk_42 (dk_at dksJ14_coder_0 6 rfl rfl)
theorem dJ14_coder_7 : decode cJ14_coder 7 = .ok (.getfield 15, 3) := dk_180 0 15 (dk_at dksJ14_coder_0 7 rfl rfl)
theorem dJ14_coder_10 : decode cJ14_coder 10 = .ok (.goto 4, 3) := dk_167 0 4 (dk_at dksJ14_coder_0 10 rfl rfl)
theorem dJ14_coder_13 : decode cJ14_coder 13 = .ok (.iconst 1, 1) := dk_4 (dk_at dksJ14_coder_0 13 rfl rfl)
theorem dJ14_coder_14 : decode cJ14_coder 14 = .ok (.ireturn, 1) := dk_172 (dk_at dksJ14_coder_0 14 rfl rfl)
abbrev cJ14_charAt : ByteArray := prog_32_method_56_code
def yJ14_charAt : MethodName := ⟨RJ14, "charAt", "(I)C"⟩
def dkwJ14_charAt_1 : List UInt8 := [172]
abbrev dktJ14_charAt_1 : List UInt8 := dkwJ14_charAt_1 ++ []
def dkwJ14_charAt_0 : List UInt8 := [42, 182, 1, 236, 153, 0, 12, 42, 180, 0, 9, 27, 184, 1, 239, 172, 42, 180, 0, 9, 27, 184, 1, 242]
abbrev dktJ14_charAt_0 : List UInt8 := dkwJ14_charAt_0 ++ dktJ14_charAt_1
theorem dksJ14_charAt_0 : cJ14_charAt.data.toList.drop 0 = dktJ14_charAt_0 := by decide +kernel
theorem dksJ14_charAt_1 : cJ14_charAt.data.toList.drop 24 = dktJ14_charAt_1 := dk_seg dksJ14_charAt_0 24 rfl rfl
theorem dJ14_charAt_0 : decode cJ14_charAt 0 = .ok (.aload_n 0, 1) := dk_42 (dk_at dksJ14_charAt_0 0 rfl rfl)
theorem dJ14_charAt_1 : decode cJ14_charAt 1 = .ok (.invokevirtual 492, 3) := dk_182 1 236 (dk_at dksJ14_charAt_0 1 rfl rfl)
theorem dJ14_charAt_4 : decode cJ14_charAt 4 = .ok (.ifCond .eq 12, 3) := dk_153 0 12 (dk_at dksJ14_charAt_0 4 rfl rfl)
theorem dJ14_charAt_7 : decode cJ14_charAt 7 = .ok (.aload_n 0, 1) := dk_42 (dk_at dksJ14_charAt_0 7 rfl rfl)
theorem dJ14_charAt_8 : decode cJ14_charAt 8 = .ok (.getfield 9, 3) := dk_180 0 9 (dk_at dksJ14_charAt_0 8 rfl rfl)
theorem dJ14_charAt_11 : decode cJ14_charAt 11 = .ok (.iload_n 1, 1) := dk_27 (dk_at dksJ14_charAt_0 11 rfl rfl)
theorem dJ14_charAt_12 : decode cJ14_charAt 12 = .ok (.invokestatic 495, 3) := dk_184 1 239 (dk_at dksJ14_charAt_0 12 rfl rfl)
theorem dJ14_charAt_15 : decode cJ14_charAt 15 = .ok (.ireturn, 1) := dk_172 (dk_at dksJ14_charAt_0 15 rfl rfl)
theorem dJ14_charAt_16 : decode cJ14_charAt 16 = .ok (.aload_n 0, 1) := dk_42 (dk_at dksJ14_charAt_0 16 rfl rfl)
theorem dJ14_charAt_17 : decode cJ14_charAt 17 = .ok (.getfield 9, 3) := dk_180 0 9 (dk_at dksJ14_charAt_0 17 rfl rfl)
theorem dJ14_charAt_20 : decode cJ14_charAt 20 = .ok (.iload_n 1, 1) := dk_27 (dk_at dksJ14_charAt_0 20 rfl rfl)
theorem dJ14_charAt_21 : decode cJ14_charAt 21 = .ok (.invokestatic 498, 3) := dk_184 1 242 (dk_at dksJ14_charAt_0 21 rfl rfl)
theorem dJ14_charAt_24 : decode cJ14_charAt 24 = .ok (.ireturn, 1) := dk_172 (dk_at dksJ14_charAt_1 0 rfl rfl)
abbrev cJ14_isLatin1 : ByteArray := prog_32_method_154_code
def yJ14_isLatin1 : MethodName := ⟨RJ14, "isLatin1", "()Z"⟩
def dkwJ14_isLatin1_0 : List UInt8 := [178, 0, 38, 153, 0, 14, 42, 180, 0, 15, 154, 0, 7, 4, 167, 0, 4, 3, 172]
abbrev dktJ14_isLatin1_0 : List UInt8 := dkwJ14_isLatin1_0 ++ []
theorem dksJ14_isLatin1_0 : cJ14_isLatin1.data.toList.drop 0 = dktJ14_isLatin1_0 := by decide +kernel
theorem dJ14_isLatin1_0 : decode cJ14_isLatin1 0 = .ok (.getstatic 38, 3) := dk_178 0 38 (dk_at dksJ14_isLatin1_0 0 rfl rfl)
theorem dJ14_isLatin1_3 : decode cJ14_isLatin1 3 = .ok (.ifCond .eq 14, 3) := dk_153 0 14 (dk_at dksJ14_isLatin1_0 3 rfl rfl)
theorem dJ14_isLatin1_6 : decode cJ14_isLatin1 6 = .ok (.aload_n 0, 1) := dk_42 (dk_at dksJ14_isLatin1_0 6 rfl rfl)
theorem dJ14_isLatin1_7 : decode cJ14_isLatin1 7 = .ok (.getfield 15, 3) := dk_180 0 15 (dk_at dksJ14_isLatin1_0 7 rfl rfl)
theorem dJ14_isLatin1_10 : decode cJ14_isLatin1 10 = .ok (.ifCond .ne 7, 3) := dk_154 0 7 (dk_at dksJ14_isLatin1_0 10 rfl rfl)
theorem dJ14_isLatin1_13 : decode cJ14_isLatin1 13 = .ok (.iconst 1, 1) := dk_4 (dk_at dksJ14_isLatin1_0 13 rfl rfl)
theorem dJ14_isLatin1_14 : decode cJ14_isLatin1 14 = .ok (.goto 4, 3) := dk_167 0 4 (dk_at dksJ14_isLatin1_0 14 rfl rfl)
theorem dJ14_isLatin1_17 : decode cJ14_isLatin1 17 = .ok (.iconst 0, 1) := dk_3 (dk_at dksJ14_isLatin1_0 17 rfl rfl)
theorem dJ14_isLatin1_18 : decode cJ14_isLatin1 18 = .ok (.ireturn, 1) := dk_172 (dk_at dksJ14_isLatin1_0 18 rfl rfl)
abbrev cJ14_checkIndex : ByteArray := prog_32_method_155_code
def yJ14_checkIndex : MethodName := ⟨RJ14, "checkIndex", "(II)V"⟩
def dkwJ14_checkIndex_0 : List UInt8 := [26, 27, 178, 4, 29, 184, 4, 35, 87, 177]
abbrev dktJ14_checkIndex_0 : List UInt8 := dkwJ14_checkIndex_0 ++ []
theorem dksJ14_checkIndex_0 : cJ14_checkIndex.data.toList.drop 0 = dktJ14_checkIndex_0 := by decide +kernel
theorem dJ14_checkIndex_0 : decode cJ14_checkIndex 0 = .ok (.iload_n 0, 1) := dk_26 (dk_at dksJ14_checkIndex_0 0 rfl rfl)
theorem dJ14_checkIndex_1 : decode cJ14_checkIndex 1 = .ok (.iload_n 1, 1) := dk_27 (dk_at dksJ14_checkIndex_0 1 rfl rfl)
theorem dJ14_checkIndex_2 : decode cJ14_checkIndex 2 = .ok (.getstatic 1053, 3) := dk_178 4 29 (dk_at dksJ14_checkIndex_0 2 rfl rfl)
theorem dJ14_checkIndex_5 : decode cJ14_checkIndex 5 = .ok (.invokestatic 1059, 3) := dk_184 4 35 (dk_at dksJ14_checkIndex_0 5 rfl rfl)
theorem dJ14_checkIndex_8 : decode cJ14_checkIndex 8 = .ok (.pop, 1) := dk_87 (dk_at dksJ14_checkIndex_0 8 rfl rfl)
theorem dJ14_checkIndex_9 : decode cJ14_checkIndex 9 = .ok (.return_, 1) := dk_177 (dk_at dksJ14_checkIndex_0 9 rfl rfl)
abbrev cJ14_checkBoundsOffCount : ByteArray := prog_32_method_157_code
def yJ14_checkBoundsOffCount : MethodName := ⟨RJ14, "checkBoundsOffCount", "(III)I"⟩
def dkwJ14_checkBoundsOffCount_0 : List UInt8 := [26, 27, 28, 178, 4, 29, 184, 4, 41, 172]
abbrev dktJ14_checkBoundsOffCount_0 : List UInt8 := dkwJ14_checkBoundsOffCount_0 ++ []
theorem dksJ14_checkBoundsOffCount_0 : cJ14_checkBoundsOffCount.data.toList.drop 0 = dktJ14_checkBoundsOffCount_0 := by decide +kernel
theorem dJ14_checkBoundsOffCount_0 : decode cJ14_checkBoundsOffCount 0 = .ok (.iload_n 0, 1) := dk_26 (dk_at dksJ14_checkBoundsOffCount_0 0 rfl rfl)
theorem dJ14_checkBoundsOffCount_1 : decode cJ14_checkBoundsOffCount 1 = .ok (.iload_n 1, 1) := dk_27 (dk_at dksJ14_checkBoundsOffCount_0 1 rfl rfl)
theorem dJ14_checkBoundsOffCount_2 : decode cJ14_checkBoundsOffCount 2 = .ok (.iload_n 2, 1) := dk_28 (dk_at dksJ14_checkBoundsOffCount_0 2 rfl rfl)
theorem dJ14_checkBoundsOffCount_3 : decode cJ14_checkBoundsOffCount 3 = .ok (.getstatic 1053, 3) := dk_178 4 29 (dk_at dksJ14_checkBoundsOffCount_0 3 rfl rfl)
theorem dJ14_checkBoundsOffCount_6 : decode cJ14_checkBoundsOffCount 6 = .ok (.invokestatic 1065, 3) := dk_184 4 41 (dk_at dksJ14_checkBoundsOffCount_0 6 rfl rfl)
theorem dJ14_checkBoundsOffCount_9 : decode cJ14_checkBoundsOffCount 9 = .ok (.ireturn, 1) := dk_172 (dk_at dksJ14_checkBoundsOffCount_0 9 rfl rfl)
abbrev cJ14_init : ByteArray := prog_32_method_53_code
def yJ14_init : MethodName := ⟨RJ14, "<init>", "(Ljava/lang/StringBuilder;)V"⟩
def dkwJ14_init_0 : List UInt8 := [42, 43, 1, 183, 1, 233, 177]
abbrev dktJ14_init_0 : List UInt8 := dkwJ14_init_0 ++ []
theorem dksJ14_init_0 : cJ14_init.data.toList.drop 0 = dktJ14_init_0 := by decide +kernel
theorem dJ14_init_0 : decode cJ14_init 0 = .ok (.aload_n 0, 1) := dk_42 (dk_at dksJ14_init_0 0 rfl rfl)
theorem dJ14_init_1 : decode cJ14_init 1 = .ok (.aload_n 1, 1) := dk_43 (dk_at dksJ14_init_0 1 rfl rfl)
theorem dJ14_init_2 : decode cJ14_init 2 = .ok (.aconst_null, 1) := dk_1 (dk_at dksJ14_init_0 2 rfl rfl)
theorem dJ14_init_3 : decode cJ14_init 3 = .ok (.invokespecial 489, 3) := dk_183 1 233 (dk_at dksJ14_init_0 3 rfl rfl)
theorem dJ14_init_6 : decode cJ14_init 6 = .ok (.return_, 1) := dk_177 (dk_at dksJ14_init_0 6 rfl rfl)
abbrev cJ14_init_2 : ByteArray := prog_32_method_150_code
def yJ14_init_2 : MethodName := ⟨RJ14, "<init>", "(Ljava/lang/AbstractStringBuilder;Ljava/lang/Void;)V"⟩
def dkwJ14_init_2_4 : List UInt8 := [181, 0, 9, 177]
abbrev dktJ14_init_2_4 : List UInt8 := dkwJ14_init_2_4 ++ []
def dkwJ14_init_2_3 : List UInt8 := [184, 0, 47, 181, 0, 15, 177, 42, 4, 181, 0, 15, 42, 45, 3, 21, 4, 4, 120, 184, 0, 54]
abbrev dktJ14_init_2_3 : List UInt8 := dkwJ14_init_2_3 ++ dktJ14_init_2_4
def dkwJ14_init_2_2 : List UInt8 := [180, 4, 24, 153, 0, 28, 42, 45, 3, 21, 4, 184, 4, 27, 181, 0, 9, 42, 42, 180, 0, 9, 21, 4]
abbrev dktJ14_init_2_2 : List UInt8 := dkwJ14_init_2_2 ++ dktJ14_init_2_3
def dkwJ14_init_2_1 : List UInt8 := [181, 0, 15, 42, 45, 3, 21, 4, 184, 0, 54, 181, 0, 9, 167, 0, 59, 178, 0, 38, 153, 0, 35, 43]
abbrev dktJ14_init_2_1 : List UInt8 := dkwJ14_init_2_1 ++ dktJ14_init_2_2
def dkwJ14_init_2_0 : List UInt8 := [42, 183, 0, 1, 43, 182, 2, 40, 78, 43, 182, 2, 37, 54, 4, 43, 182, 4, 23, 153, 0, 22, 42, 3]
abbrev dktJ14_init_2_0 : List UInt8 := dkwJ14_init_2_0 ++ dktJ14_init_2_1
theorem dksJ14_init_2_0 : cJ14_init_2.data.toList.drop 0 = dktJ14_init_2_0 := by decide +kernel
theorem dksJ14_init_2_1 : cJ14_init_2.data.toList.drop 24 = dktJ14_init_2_1 := dk_seg dksJ14_init_2_0 24 rfl rfl
theorem dksJ14_init_2_2 : cJ14_init_2.data.toList.drop 48 = dktJ14_init_2_2 := dk_seg dksJ14_init_2_1 24 rfl rfl
theorem dksJ14_init_2_3 : cJ14_init_2.data.toList.drop 72 = dktJ14_init_2_3 := dk_seg dksJ14_init_2_2 24 rfl rfl
theorem dksJ14_init_2_4 : cJ14_init_2.data.toList.drop 94 = dktJ14_init_2_4 := dk_seg dksJ14_init_2_3 22 rfl rfl
theorem dJ14_init_2_0 : decode cJ14_init_2 0 = .ok (.aload_n 0, 1) := dk_42 (dk_at dksJ14_init_2_0 0 rfl rfl)
theorem dJ14_init_2_1 : decode cJ14_init_2 1 = .ok (.invokespecial 1, 3) := dk_183 0 1 (dk_at dksJ14_init_2_0 1 rfl rfl)
theorem dJ14_init_2_4 : decode cJ14_init_2 4 = .ok (.aload_n 1, 1) := dk_43 (dk_at dksJ14_init_2_0 4 rfl rfl)
theorem dJ14_init_2_5 : decode cJ14_init_2 5 = .ok (.invokevirtual 552, 3) := dk_182 2 40 (dk_at dksJ14_init_2_0 5 rfl rfl)
theorem dJ14_init_2_8 : decode cJ14_init_2 8 = .ok (.astore_n 3, 1) := dk_78 (dk_at dksJ14_init_2_0 8 rfl rfl)
theorem dJ14_init_2_9 : decode cJ14_init_2 9 = .ok (.aload_n 1, 1) := dk_43 (dk_at dksJ14_init_2_0 9 rfl rfl)
theorem dJ14_init_2_10 : decode cJ14_init_2 10 = .ok (.invokevirtual 549, 3) := dk_182 2 37 (dk_at dksJ14_init_2_0 10 rfl rfl)
theorem dJ14_init_2_13 : decode cJ14_init_2 13 = .ok (.istore 4, 2) := dk_54 4 (dk_at dksJ14_init_2_0 13 rfl rfl)
theorem dJ14_init_2_15 : decode cJ14_init_2 15 = .ok (.aload_n 1, 1) := dk_43 (dk_at dksJ14_init_2_0 15 rfl rfl)
theorem dJ14_init_2_16 : decode cJ14_init_2 16 = .ok (.invokevirtual 1047, 3) := dk_182 4 23 (dk_at dksJ14_init_2_0 16 rfl rfl)
theorem dJ14_init_2_19 : decode cJ14_init_2 19 = .ok (.ifCond .eq 22, 3) := dk_153 0 22 (dk_at dksJ14_init_2_0 19 rfl rfl)
theorem dJ14_init_2_22 : decode cJ14_init_2 22 = .ok (.aload_n 0, 1) := dk_42 (dk_at dksJ14_init_2_0 22 rfl rfl)
theorem dJ14_init_2_23 : decode cJ14_init_2 23 = .ok (.iconst 0, 1) := dk_3 (dk_at dksJ14_init_2_0 23 rfl rfl)
theorem dJ14_init_2_24 : decode cJ14_init_2 24 = .ok (.putfield 15, 3) := dk_181 0 15 (dk_at dksJ14_init_2_1 0 rfl rfl)
theorem dJ14_init_2_27 : decode cJ14_init_2 27 = .ok (.aload_n 0, 1) := dk_42 (dk_at dksJ14_init_2_1 3 rfl rfl)
theorem dJ14_init_2_28 : decode cJ14_init_2 28 = .ok (.aload_n 3, 1) := dk_45 (dk_at dksJ14_init_2_1 4 rfl rfl)
theorem dJ14_init_2_29 : decode cJ14_init_2 29 = .ok (.iconst 0, 1) := dk_3 (dk_at dksJ14_init_2_1 5 rfl rfl)
theorem dJ14_init_2_30 : decode cJ14_init_2 30 = .ok (.iload 4, 2) := dk_21 4 (dk_at dksJ14_init_2_1 6 rfl rfl)
theorem dJ14_init_2_32 : decode cJ14_init_2 32 = .ok (.invokestatic 54, 3) := dk_184 0 54 (dk_at dksJ14_init_2_1 8 rfl rfl)
theorem dJ14_init_2_35 : decode cJ14_init_2 35 = .ok (.putfield 9, 3) := dk_181 0 9 (dk_at dksJ14_init_2_1 11 rfl rfl)
theorem dJ14_init_2_38 : decode cJ14_init_2 38 = .ok (.goto 59, 3) := dk_167 0 59 (dk_at dksJ14_init_2_1 14 rfl rfl)
theorem dJ14_init_2_41 : decode cJ14_init_2 41 = .ok (.getstatic 38, 3) := dk_178 0 38 (dk_at dksJ14_init_2_1 17 rfl rfl)
theorem dJ14_init_2_44 : decode cJ14_init_2 44 = .ok (.ifCond .eq 35, 3) := dk_153 0 35 (dk_at dksJ14_init_2_1 20 rfl rfl)
theorem dJ14_init_2_47 : decode cJ14_init_2 47 = .ok (.aload_n 1, 1) := dk_43 (dk_at dksJ14_init_2_1 23 rfl rfl)
theorem dJ14_init_2_48 : decode cJ14_init_2 48 = .ok (.getfield 1048, 3) := dk_180 4 24 (dk_at dksJ14_init_2_2 0 rfl rfl)
theorem dJ14_init_2_51 : decode cJ14_init_2 51 = .ok (.ifCond .eq 28, 3) := dk_153 0 28 (dk_at dksJ14_init_2_2 3 rfl rfl)
theorem dJ14_init_2_54 : decode cJ14_init_2 54 = .ok (.aload_n 0, 1) := dk_42 (dk_at dksJ14_init_2_2 6 rfl rfl)
theorem dJ14_init_2_55 : decode cJ14_init_2 55 = .ok (.aload_n 3, 1) := dk_45 (dk_at dksJ14_init_2_2 7 rfl rfl)
theorem dJ14_init_2_56 : decode cJ14_init_2 56 = .ok (.iconst 0, 1) := dk_3 (dk_at dksJ14_init_2_2 8 rfl rfl)
theorem dJ14_init_2_57 : decode cJ14_init_2 57 = .ok (.iload 4, 2) := dk_21 4 (dk_at dksJ14_init_2_2 9 rfl rfl)
theorem dJ14_init_2_59 : decode cJ14_init_2 59 = .ok (.invokestatic 1051, 3) := dk_184 4 27 (dk_at dksJ14_init_2_2 11 rfl rfl)
theorem dJ14_init_2_62 : decode cJ14_init_2 62 = .ok (.putfield 9, 3) := dk_181 0 9 (dk_at dksJ14_init_2_2 14 rfl rfl)
theorem dJ14_init_2_65 : decode cJ14_init_2 65 = .ok (.aload_n 0, 1) := dk_42 (dk_at dksJ14_init_2_2 17 rfl rfl)
theorem dJ14_init_2_66 : decode cJ14_init_2 66 = .ok (.aload_n 0, 1) := dk_42 (dk_at dksJ14_init_2_2 18 rfl rfl)
theorem dJ14_init_2_67 : decode cJ14_init_2 67 = .ok (.getfield 9, 3) := dk_180 0 9 (dk_at dksJ14_init_2_2 19 rfl rfl)
theorem dJ14_init_2_70 : decode cJ14_init_2 70 = .ok (.iload 4, 2) := dk_21 4 (dk_at dksJ14_init_2_2 22 rfl rfl)
theorem dJ14_init_2_72 : decode cJ14_init_2 72 = .ok (.invokestatic 47, 3) := dk_184 0 47 (dk_at dksJ14_init_2_3 0 rfl rfl)
theorem dJ14_init_2_75 : decode cJ14_init_2 75 = .ok (.putfield 15, 3) := dk_181 0 15 (dk_at dksJ14_init_2_3 3 rfl rfl)
theorem dJ14_init_2_78 : decode cJ14_init_2 78 = .ok (.return_, 1) := dk_177 (dk_at dksJ14_init_2_3 6 rfl rfl)
theorem dJ14_init_2_79 : decode cJ14_init_2 79 = .ok (.aload_n 0, 1) := dk_42 (dk_at dksJ14_init_2_3 7 rfl rfl)
theorem dJ14_init_2_80 : decode cJ14_init_2 80 = .ok (.iconst 1, 1) := dk_4 (dk_at dksJ14_init_2_3 8 rfl rfl)
theorem dJ14_init_2_81 : decode cJ14_init_2 81 = .ok (.putfield 15, 3) := dk_181 0 15 (dk_at dksJ14_init_2_3 9 rfl rfl)
theorem dJ14_init_2_84 : decode cJ14_init_2 84 = .ok (.aload_n 0, 1) := dk_42 (dk_at dksJ14_init_2_3 12 rfl rfl)
theorem dJ14_init_2_85 : decode cJ14_init_2 85 = .ok (.aload_n 3, 1) := dk_45 (dk_at dksJ14_init_2_3 13 rfl rfl)
theorem dJ14_init_2_86 : decode cJ14_init_2 86 = .ok (.iconst 0, 1) := dk_3 (dk_at dksJ14_init_2_3 14 rfl rfl)
theorem dJ14_init_2_87 : decode cJ14_init_2 87 = .ok (.iload 4, 2) := dk_21 4 (dk_at dksJ14_init_2_3 15 rfl rfl)
theorem dJ14_init_2_89 : decode cJ14_init_2 89 = .ok (.iconst 1, 1) := dk_4 (dk_at dksJ14_init_2_3 17 rfl rfl)
theorem dJ14_init_2_90 : decode cJ14_init_2 90 = .ok (.ishl, 1) := dk_120 (dk_at dksJ14_init_2_3 18 rfl rfl)
theorem dJ14_init_2_91 : decode cJ14_init_2 91 = .ok (.invokestatic 54, 3) := dk_184 0 54 (dk_at dksJ14_init_2_3 19 rfl rfl)
theorem dJ14_init_2_94 : decode cJ14_init_2 94 = .ok (.putfield 9, 3) := dk_181 0 9 (dk_at dksJ14_init_2_4 0 rfl rfl)
theorem dJ14_init_2_97 : decode cJ14_init_2 97 = .ok (.return_, 1) := dk_177 (dk_at dksJ14_init_2_4 3 rfl rfl)
abbrev cJ14_checkBoundsBeginEnd : ByteArray := prog_32_method_158_code
def yJ14_checkBoundsBeginEnd : MethodName := ⟨RJ14, "checkBoundsBeginEnd", "(III)V"⟩
def dkwJ14_checkBoundsBeginEnd_0 : List UInt8 := [26, 27, 28, 178, 4, 29, 184, 4, 38, 87, 177]
abbrev dktJ14_checkBoundsBeginEnd_0 : List UInt8 := dkwJ14_checkBoundsBeginEnd_0 ++ []
theorem dksJ14_checkBoundsBeginEnd_0 : cJ14_checkBoundsBeginEnd.data.toList.drop 0 = dktJ14_checkBoundsBeginEnd_0 := by decide +kernel
theorem dJ14_checkBoundsBeginEnd_0 : decode cJ14_checkBoundsBeginEnd 0 = .ok (.iload_n 0, 1) := dk_26 (dk_at dksJ14_checkBoundsBeginEnd_0 0 rfl rfl)
theorem dJ14_checkBoundsBeginEnd_1 : decode cJ14_checkBoundsBeginEnd 1 = .ok (.iload_n 1, 1) := dk_27 (dk_at dksJ14_checkBoundsBeginEnd_0 1 rfl rfl)
theorem dJ14_checkBoundsBeginEnd_2 : decode cJ14_checkBoundsBeginEnd 2 = .ok (.iload_n 2, 1) := dk_28 (dk_at dksJ14_checkBoundsBeginEnd_0 2 rfl rfl)
theorem dJ14_checkBoundsBeginEnd_3 : decode cJ14_checkBoundsBeginEnd 3 = .ok (.getstatic 1053, 3) := dk_178 4 29 (dk_at dksJ14_checkBoundsBeginEnd_0 3 rfl rfl)
theorem dJ14_checkBoundsBeginEnd_6 : decode cJ14_checkBoundsBeginEnd 6 = .ok (.invokestatic 1062, 3) := dk_184 4 38 (dk_at dksJ14_checkBoundsBeginEnd_0 6 rfl rfl)
theorem dJ14_checkBoundsBeginEnd_9 : decode cJ14_checkBoundsBeginEnd 9 = .ok (.pop, 1) := dk_87 (dk_at dksJ14_checkBoundsBeginEnd_0 9 rfl rfl)
theorem dJ14_checkBoundsBeginEnd_10 : decode cJ14_checkBoundsBeginEnd 10 = .ok (.return_, 1) := dk_177 (dk_at dksJ14_checkBoundsBeginEnd_0 10 rfl rfl)
abbrev cJ14_getBytes : ByteArray := prog_32_method_147_code
def yJ14_getBytes : MethodName := ⟨RJ14, "getBytes", "([BIB)V"⟩
def dkwJ14_getBytes_1 : List UInt8 := [184, 0, 212, 167, 0, 18, 42, 180, 0, 9, 3, 43, 28, 42, 180, 0, 9, 190, 184, 0, 106, 177]
abbrev dktJ14_getBytes_1 : List UInt8 := dkwJ14_getBytes_1 ++ []
def dkwJ14_getBytes_0 : List UInt8 := [42, 182, 1, 79, 29, 160, 0, 23, 42, 180, 0, 9, 3, 43, 28, 29, 120, 42, 180, 0, 9, 190]
abbrev dktJ14_getBytes_0 : List UInt8 := dkwJ14_getBytes_0 ++ dktJ14_getBytes_1
theorem dksJ14_getBytes_0 : cJ14_getBytes.data.toList.drop 0 = dktJ14_getBytes_0 := by decide +kernel
theorem dksJ14_getBytes_1 : cJ14_getBytes.data.toList.drop 22 = dktJ14_getBytes_1 := dk_seg dksJ14_getBytes_0 22 rfl rfl
theorem dJ14_getBytes_0 : decode cJ14_getBytes 0 = .ok (.aload_n 0, 1) := dk_42 (dk_at dksJ14_getBytes_0 0 rfl rfl)
theorem dJ14_getBytes_1 : decode cJ14_getBytes 1 = .ok (.invokevirtual 335, 3) := dk_182 1 79 (dk_at dksJ14_getBytes_0 1 rfl rfl)
theorem dJ14_getBytes_4 : decode cJ14_getBytes 4 = .ok (.iload_n 3, 1) := dk_29 (dk_at dksJ14_getBytes_0 4 rfl rfl)
theorem dJ14_getBytes_5 : decode cJ14_getBytes 5 = .ok (.if_icmp .ne 23, 3) := dk_160 0 23 (dk_at dksJ14_getBytes_0 5 rfl rfl)
theorem dJ14_getBytes_8 : decode cJ14_getBytes 8 = .ok (.aload_n 0, 1) := dk_42 (dk_at dksJ14_getBytes_0 8 rfl rfl)
theorem dJ14_getBytes_9 : decode cJ14_getBytes 9 = .ok (.getfield 9, 3) := dk_180 0 9 (dk_at dksJ14_getBytes_0 9 rfl rfl)
theorem dJ14_getBytes_12 : decode cJ14_getBytes 12 = .ok (.iconst 0, 1) := dk_3 (dk_at dksJ14_getBytes_0 12 rfl rfl)
theorem dJ14_getBytes_13 : decode cJ14_getBytes 13 = .ok (.aload_n 1, 1) := dk_43 (dk_at dksJ14_getBytes_0 13 rfl rfl)
theorem dJ14_getBytes_14 : decode cJ14_getBytes 14 = .ok (.iload_n 2, 1) := dk_28 (dk_at dksJ14_getBytes_0 14 rfl rfl)
theorem dJ14_getBytes_15 : decode cJ14_getBytes 15 = .ok (.iload_n 3, 1) := dk_29 (dk_at dksJ14_getBytes_0 15 rfl rfl)
theorem dJ14_getBytes_16 : decode cJ14_getBytes 16 = .ok (.ishl, 1) := dk_120 (dk_at dksJ14_getBytes_0 16 rfl rfl)
theorem dJ14_getBytes_17 : decode cJ14_getBytes 17 = .ok (.aload_n 0, 1) := dk_42 (dk_at dksJ14_getBytes_0 17 rfl rfl)
theorem dJ14_getBytes_18 : decode cJ14_getBytes 18 = .ok (.getfield 9, 3) := dk_180 0 9 (dk_at dksJ14_getBytes_0 18 rfl rfl)
theorem dJ14_getBytes_21 : decode cJ14_getBytes 21 = .ok (.arraylength, 1) := dk_190 (dk_at dksJ14_getBytes_0 21 rfl rfl)
theorem dJ14_getBytes_22 : decode cJ14_getBytes 22 = .ok (.invokestatic 212, 3) := dk_184 0 212 (dk_at dksJ14_getBytes_1 0 rfl rfl)
theorem dJ14_getBytes_25 : decode cJ14_getBytes 25 = .ok (.goto 18, 3) := dk_167 0 18 (dk_at dksJ14_getBytes_1 3 rfl rfl)
theorem dJ14_getBytes_28 : decode cJ14_getBytes 28 = .ok (.aload_n 0, 1) := dk_42 (dk_at dksJ14_getBytes_1 6 rfl rfl)
theorem dJ14_getBytes_29 : decode cJ14_getBytes 29 = .ok (.getfield 9, 3) := dk_180 0 9 (dk_at dksJ14_getBytes_1 7 rfl rfl)
theorem dJ14_getBytes_32 : decode cJ14_getBytes 32 = .ok (.iconst 0, 1) := dk_3 (dk_at dksJ14_getBytes_1 10 rfl rfl)
theorem dJ14_getBytes_33 : decode cJ14_getBytes 33 = .ok (.aload_n 1, 1) := dk_43 (dk_at dksJ14_getBytes_1 11 rfl rfl)
theorem dJ14_getBytes_34 : decode cJ14_getBytes 34 = .ok (.iload_n 2, 1) := dk_28 (dk_at dksJ14_getBytes_1 12 rfl rfl)
theorem dJ14_getBytes_35 : decode cJ14_getBytes 35 = .ok (.aload_n 0, 1) := dk_42 (dk_at dksJ14_getBytes_1 13 rfl rfl)
theorem dJ14_getBytes_36 : decode cJ14_getBytes 36 = .ok (.getfield 9, 3) := dk_180 0 9 (dk_at dksJ14_getBytes_1 14 rfl rfl)
theorem dJ14_getBytes_39 : decode cJ14_getBytes 39 = .ok (.arraylength, 1) := dk_190 (dk_at dksJ14_getBytes_1 17 rfl rfl)
theorem dJ14_getBytes_40 : decode cJ14_getBytes 40 = .ok (.invokestatic 106, 3) := dk_184 0 106 (dk_at dksJ14_getBytes_1 18 rfl rfl)
theorem dJ14_getBytes_43 : decode cJ14_getBytes 43 = .ok (.return_, 1) := dk_177 (dk_at dksJ14_getBytes_1 21 rfl rfl)
abbrev cJ14_equals : ByteArray := prog_32_method_66_code
def yJ14_equals : MethodName := ⟨RJ14, "equals", "(Ljava/lang/Object;)Z"⟩
def dkwJ14_equals_2 : List UInt8 := [184, 2, 29, 153, 0, 7, 4, 167, 0, 4, 3, 172]
abbrev dktJ14_equals_2 : List UInt8 := dkwJ14_equals_2 ++ []
def dkwJ14_equals_1 : List UInt8 := [153, 0, 14, 42, 180, 0, 15, 44, 180, 0, 15, 160, 0, 21, 42, 180, 0, 9, 44, 180, 0, 9]
abbrev dktJ14_equals_1 : List UInt8 := dkwJ14_equals_1 ++ dktJ14_equals_2
def dkwJ14_equals_0 : List UInt8 := [42, 43, 166, 0, 5, 4, 172, 43, 193, 0, 10, 153, 0, 43, 43, 192, 0, 10, 77, 178, 0, 38]
abbrev dktJ14_equals_0 : List UInt8 := dkwJ14_equals_0 ++ dktJ14_equals_1
theorem dksJ14_equals_0 : cJ14_equals.data.toList.drop 0 = dktJ14_equals_0 := by decide +kernel
theorem dksJ14_equals_1 : cJ14_equals.data.toList.drop 22 = dktJ14_equals_1 := dk_seg dksJ14_equals_0 22 rfl rfl
theorem dksJ14_equals_2 : cJ14_equals.data.toList.drop 44 = dktJ14_equals_2 := dk_seg dksJ14_equals_1 22 rfl rfl
theorem dJ14_equals_0 : decode cJ14_equals 0 = .ok (.aload_n 0, 1) := dk_42 (dk_at dksJ14_equals_0 0 rfl rfl)
theorem dJ14_equals_1 : decode cJ14_equals 1 = .ok (.aload_n 1, 1) := dk_43 (dk_at dksJ14_equals_0 1 rfl rfl)
theorem dJ14_equals_2 : decode cJ14_equals 2 = .ok (.if_acmp .ne 5, 3) := dk_166 0 5 (dk_at dksJ14_equals_0 2 rfl rfl)
theorem dJ14_equals_5 : decode cJ14_equals 5 = .ok (.iconst 1, 1) := dk_4 (dk_at dksJ14_equals_0 5 rfl rfl)
theorem dJ14_equals_6 : decode cJ14_equals 6 = .ok (.ireturn, 1) := dk_172 (dk_at dksJ14_equals_0 6 rfl rfl)
theorem dJ14_equals_7 : decode cJ14_equals 7 = .ok (.aload_n 1, 1) := dk_43 (dk_at dksJ14_equals_0 7 rfl rfl)
theorem dJ14_equals_8 : decode cJ14_equals 8 = .ok (.instanceof 10, 3) := dk_193 0 10 (dk_at dksJ14_equals_0 8 rfl rfl)
theorem dJ14_equals_11 : decode cJ14_equals 11 = .ok (.ifCond .eq 43, 3) := dk_153 0 43 (dk_at dksJ14_equals_0 11 rfl rfl)
theorem dJ14_equals_14 : decode cJ14_equals 14 = .ok (.aload_n 1, 1) := dk_43 (dk_at dksJ14_equals_0 14 rfl rfl)
theorem dJ14_equals_15 : decode cJ14_equals 15 = .ok (.checkcast 10, 3) := dk_192 0 10 (dk_at dksJ14_equals_0 15 rfl rfl)
theorem dJ14_equals_18 : decode cJ14_equals 18 = .ok (.astore_n 2, 1) := dk_77 (dk_at dksJ14_equals_0 18 rfl rfl)
theorem dJ14_equals_19 : decode cJ14_equals 19 = .ok (.getstatic 38, 3) := dk_178 0 38 (dk_at dksJ14_equals_0 19 rfl rfl)
theorem dJ14_equals_22 : decode cJ14_equals 22 = .ok (.ifCond .eq 14, 3) := dk_153 0 14 (dk_at dksJ14_equals_1 0 rfl rfl)
theorem dJ14_equals_25 : decode cJ14_equals 25 = .ok (.aload_n 0, 1) := dk_42 (dk_at dksJ14_equals_1 3 rfl rfl)
theorem dJ14_equals_26 : decode cJ14_equals 26 = .ok (.getfield 15, 3) := dk_180 0 15 (dk_at dksJ14_equals_1 4 rfl rfl)
theorem dJ14_equals_29 : decode cJ14_equals 29 = .ok (.aload_n 2, 1) := dk_44 (dk_at dksJ14_equals_1 7 rfl rfl)
theorem dJ14_equals_30 : decode cJ14_equals 30 = .ok (.getfield 15, 3) := dk_180 0 15 (dk_at dksJ14_equals_1 8 rfl rfl)
theorem dJ14_equals_33 : decode cJ14_equals 33 = .ok (.if_icmp .ne 21, 3) := dk_160 0 21 (dk_at dksJ14_equals_1 11 rfl rfl)
theorem dJ14_equals_36 : decode cJ14_equals 36 = .ok (.aload_n 0, 1) := dk_42 (dk_at dksJ14_equals_1 14 rfl rfl)
theorem dJ14_equals_37 : decode cJ14_equals 37 = .ok (.getfield 9, 3) := dk_180 0 9 (dk_at dksJ14_equals_1 15 rfl rfl)
theorem dJ14_equals_40 : decode cJ14_equals 40 = .ok (.aload_n 2, 1) := dk_44 (dk_at dksJ14_equals_1 18 rfl rfl)
theorem dJ14_equals_41 : decode cJ14_equals 41 = .ok (.getfield 9, 3) := dk_180 0 9 (dk_at dksJ14_equals_1 19 rfl rfl)
theorem dJ14_equals_44 : decode cJ14_equals 44 = .ok (.invokestatic 541, 3) := dk_184 2 29 (dk_at dksJ14_equals_2 0 rfl rfl)
theorem dJ14_equals_47 : decode cJ14_equals 47 = .ok (.ifCond .eq 7, 3) := dk_153 0 7 (dk_at dksJ14_equals_2 3 rfl rfl)
theorem dJ14_equals_50 : decode cJ14_equals 50 = .ok (.iconst 1, 1) := dk_4 (dk_at dksJ14_equals_2 6 rfl rfl)
theorem dJ14_equals_51 : decode cJ14_equals 51 = .ok (.goto 4, 3) := dk_167 0 4 (dk_at dksJ14_equals_2 7 rfl rfl)
theorem dJ14_equals_54 : decode cJ14_equals 54 = .ok (.iconst 0, 1) := dk_3 (dk_at dksJ14_equals_2 10 rfl rfl)
theorem dJ14_equals_55 : decode cJ14_equals 55 = .ok (.ireturn, 1) := dk_172 (dk_at dksJ14_equals_2 11 rfl rfl)
abbrev cJ14_hashCode : ByteArray := prog_32_method_78_code
def yJ14_hashCode : MethodName := ⟨RJ14, "hashCode", "()I"⟩
def dkwJ14_hashCode_2 : List UInt8 := [181, 0, 23, 167, 0, 8, 42, 27, 181, 0, 19, 27, 172]
abbrev dktJ14_hashCode_2 : List UInt8 := dkwJ14_hashCode_2 ++ []
def dkwJ14_hashCode_1 : List UInt8 := [180, 0, 9, 184, 2, 116, 167, 0, 10, 42, 180, 0, 9, 184, 2, 120, 60, 27, 154, 0, 11, 42, 4]
abbrev dktJ14_hashCode_1 : List UInt8 := dkwJ14_hashCode_1 ++ dktJ14_hashCode_2
def dkwJ14_hashCode_0 : List UInt8 := [42, 180, 0, 19, 60, 27, 154, 0, 52, 42, 180, 0, 23, 154, 0, 45, 42, 182, 1, 236, 153, 0, 13, 42]
abbrev dktJ14_hashCode_0 : List UInt8 := dkwJ14_hashCode_0 ++ dktJ14_hashCode_1
theorem dksJ14_hashCode_0 : cJ14_hashCode.data.toList.drop 0 = dktJ14_hashCode_0 := by decide +kernel
theorem dksJ14_hashCode_1 : cJ14_hashCode.data.toList.drop 24 = dktJ14_hashCode_1 := dk_seg dksJ14_hashCode_0 24 rfl rfl
theorem dksJ14_hashCode_2 : cJ14_hashCode.data.toList.drop 47 = dktJ14_hashCode_2 := dk_seg dksJ14_hashCode_1 23 rfl rfl
theorem dJ14_hashCode_0 : decode cJ14_hashCode 0 = .ok (.aload_n 0, 1) := dk_42 (dk_at dksJ14_hashCode_0 0 rfl rfl)
theorem dJ14_hashCode_1 : decode cJ14_hashCode 1 = .ok (.getfield 19, 3) := dk_180 0 19 (dk_at dksJ14_hashCode_0 1 rfl rfl)
theorem dJ14_hashCode_4 : decode cJ14_hashCode 4 = .ok (.istore_n 1, 1) := dk_60 (dk_at dksJ14_hashCode_0 4 rfl rfl)
theorem dJ14_hashCode_5 : decode cJ14_hashCode 5 = .ok (.iload_n 1, 1) := dk_27 (dk_at dksJ14_hashCode_0 5 rfl rfl)
theorem dJ14_hashCode_6 : decode cJ14_hashCode 6 = .ok (.ifCond .ne 52, 3) := dk_154 0 52 (dk_at dksJ14_hashCode_0 6 rfl rfl)
theorem dJ14_hashCode_9 : decode cJ14_hashCode 9 = .ok (.aload_n 0, 1) := dk_42 (dk_at dksJ14_hashCode_0 9 rfl rfl)
theorem dJ14_hashCode_10 : decode cJ14_hashCode 10 = .ok (.getfield 23, 3) := dk_180 0 23 (dk_at dksJ14_hashCode_0 10 rfl rfl)
theorem dJ14_hashCode_13 : decode cJ14_hashCode 13 = .ok (.ifCond .ne 45, 3) := dk_154 0 45 (dk_at dksJ14_hashCode_0 13 rfl rfl)
theorem dJ14_hashCode_16 : decode cJ14_hashCode 16 = .ok (.aload_n 0, 1) := dk_42 (dk_at dksJ14_hashCode_0 16 rfl rfl)
theorem dJ14_hashCode_17 : decode cJ14_hashCode 17 = .ok (.invokevirtual 492, 3) := dk_182 1 236 (dk_at dksJ14_hashCode_0 17 rfl rfl)
theorem dJ14_hashCode_20 : decode cJ14_hashCode 20 = .ok (.ifCond .eq 13, 3) := dk_153 0 13 (dk_at dksJ14_hashCode_0 20 rfl rfl)
theorem dJ14_hashCode_23 : decode cJ14_hashCode 23 = .ok (.aload_n 0, 1) := dk_42 (dk_at dksJ14_hashCode_0 23 rfl rfl)
theorem dJ14_hashCode_24 : decode cJ14_hashCode 24 = .ok (.getfield 9, 3) := dk_180 0 9 (dk_at dksJ14_hashCode_1 0 rfl rfl)
theorem dJ14_hashCode_27 : decode cJ14_hashCode 27 = .ok (.invokestatic 628, 3) := dk_184 2 116 (dk_at dksJ14_hashCode_1 3 rfl rfl)
theorem dJ14_hashCode_30 : decode cJ14_hashCode 30 = .ok (.goto 10, 3) := dk_167 0 10 (dk_at dksJ14_hashCode_1 6 rfl rfl)
theorem dJ14_hashCode_33 : decode cJ14_hashCode 33 = .ok (.aload_n 0, 1) := dk_42 (dk_at dksJ14_hashCode_1 9 rfl rfl)
theorem dJ14_hashCode_34 : decode cJ14_hashCode 34 = .ok (.getfield 9, 3) := dk_180 0 9 (dk_at dksJ14_hashCode_1 10 rfl rfl)
theorem dJ14_hashCode_37 : decode cJ14_hashCode 37 = .ok (.invokestatic 632, 3) := dk_184 2 120 (dk_at dksJ14_hashCode_1 13 rfl rfl)
theorem dJ14_hashCode_40 : decode cJ14_hashCode 40 = .ok (.istore_n 1, 1) := dk_60 (dk_at dksJ14_hashCode_1 16 rfl rfl)
theorem dJ14_hashCode_41 : decode cJ14_hashCode 41 = .ok (.iload_n 1, 1) := dk_27 (dk_at dksJ14_hashCode_1 17 rfl rfl)
theorem dJ14_hashCode_42 : decode cJ14_hashCode 42 = .ok (.ifCond .ne 11, 3) := dk_154 0 11 (dk_at dksJ14_hashCode_1 18 rfl rfl)
theorem dJ14_hashCode_45 : decode cJ14_hashCode 45 = .ok (.aload_n 0, 1) := dk_42 (dk_at dksJ14_hashCode_1 21 rfl rfl)
theorem dJ14_hashCode_46 : decode cJ14_hashCode 46 = .ok (.iconst 1, 1) := dk_4 (dk_at dksJ14_hashCode_1 22 rfl rfl)
theorem dJ14_hashCode_47 : decode cJ14_hashCode 47 = .ok (.putfield 23, 3) := dk_181 0 23 (dk_at dksJ14_hashCode_2 0 rfl rfl)
theorem dJ14_hashCode_50 : decode cJ14_hashCode 50 = .ok (.goto 8, 3) := dk_167 0 8 (dk_at dksJ14_hashCode_2 3 rfl rfl)
theorem dJ14_hashCode_53 : decode cJ14_hashCode 53 = .ok (.aload_n 0, 1) := dk_42 (dk_at dksJ14_hashCode_2 6 rfl rfl)
theorem dJ14_hashCode_54 : decode cJ14_hashCode 54 = .ok (.iload_n 1, 1) := dk_27 (dk_at dksJ14_hashCode_2 7 rfl rfl)
theorem dJ14_hashCode_55 : decode cJ14_hashCode 55 = .ok (.putfield 19, 3) := dk_181 0 19 (dk_at dksJ14_hashCode_2 8 rfl rfl)
theorem dJ14_hashCode_58 : decode cJ14_hashCode 58 = .ok (.iload_n 1, 1) := dk_27 (dk_at dksJ14_hashCode_2 11 rfl rfl)
theorem dJ14_hashCode_59 : decode cJ14_hashCode 59 = .ok (.ireturn, 1) := dk_172 (dk_at dksJ14_hashCode_2 12 rfl rfl)
abbrev cJ14_substring : ByteArray := prog_32_method_91_code
def yJ14_substring : MethodName := ⟨RJ14, "substring", "(I)Ljava/lang/String;"⟩
def dkwJ14_substring_0 : List UInt8 := [42, 27, 42, 182, 1, 249, 182, 2, 169, 176]
abbrev dktJ14_substring_0 : List UInt8 := dkwJ14_substring_0 ++ []
theorem dksJ14_substring_0 : cJ14_substring.data.toList.drop 0 = dktJ14_substring_0 := by decide +kernel
theorem dJ14_substring_0 : decode cJ14_substring 0 = .ok (.aload_n 0, 1) := dk_42 (dk_at dksJ14_substring_0 0 rfl rfl)
theorem dJ14_substring_1 : decode cJ14_substring 1 = .ok (.iload_n 1, 1) := dk_27 (dk_at dksJ14_substring_0 1 rfl rfl)
theorem dJ14_substring_2 : decode cJ14_substring 2 = .ok (.aload_n 0, 1) := dk_42 (dk_at dksJ14_substring_0 2 rfl rfl)
theorem dJ14_substring_3 : decode cJ14_substring 3 = .ok (.invokevirtual 505, 3) := dk_182 1 249 (dk_at dksJ14_substring_0 3 rfl rfl)
theorem dJ14_substring_6 : decode cJ14_substring 6 = .ok (.invokevirtual 681, 3) := dk_182 2 169 (dk_at dksJ14_substring_0 6 rfl rfl)
theorem dJ14_substring_9 : decode cJ14_substring 9 = .ok (.areturn, 1) := dk_176 (dk_at dksJ14_substring_0 9 rfl rfl)
abbrev cJ14_substring_2 : ByteArray := prog_32_method_92_code
def yJ14_substring_2 : MethodName := ⟨RJ14, "substring", "(II)Ljava/lang/String;"⟩
def dkwJ14_substring_2_2 : List UInt8 := [180, 0, 9, 27, 21, 4, 184, 2, 177, 176]
abbrev dktJ14_substring_2_2 : List UInt8 := dkwJ14_substring_2_2 ++ []
def dkwJ14_substring_2_1 : List UInt8 := [100, 54, 4, 42, 182, 1, 236, 153, 0, 16, 42, 180, 0, 9, 27, 21, 4, 184, 2, 173, 167, 0, 13, 42]
abbrev dktJ14_substring_2_1 : List UInt8 := dkwJ14_substring_2_1 ++ dktJ14_substring_2_2
def dkwJ14_substring_2_0 : List UInt8 := [42, 182, 1, 249, 62, 27, 28, 29, 184, 2, 9, 27, 154, 0, 10, 28, 29, 160, 0, 5, 42, 176, 28, 27]
abbrev dktJ14_substring_2_0 : List UInt8 := dkwJ14_substring_2_0 ++ dktJ14_substring_2_1
theorem dksJ14_substring_2_0 : cJ14_substring_2.data.toList.drop 0 = dktJ14_substring_2_0 := by decide +kernel
theorem dksJ14_substring_2_1 : cJ14_substring_2.data.toList.drop 24 = dktJ14_substring_2_1 := dk_seg dksJ14_substring_2_0 24 rfl rfl
theorem dksJ14_substring_2_2 : cJ14_substring_2.data.toList.drop 48 = dktJ14_substring_2_2 := dk_seg dksJ14_substring_2_1 24 rfl rfl
theorem dJ14_substring_2_0 : decode cJ14_substring_2 0 = .ok (.aload_n 0, 1) := dk_42 (dk_at dksJ14_substring_2_0 0 rfl rfl)
theorem dJ14_substring_2_1 : decode cJ14_substring_2 1 = .ok (.invokevirtual 505, 3) := dk_182 1 249 (dk_at dksJ14_substring_2_0 1 rfl rfl)
theorem dJ14_substring_2_4 : decode cJ14_substring_2 4 = .ok (.istore_n 3, 1) := dk_62 (dk_at dksJ14_substring_2_0 4 rfl rfl)
theorem dJ14_substring_2_5 : decode cJ14_substring_2 5 = .ok (.iload_n 1, 1) := dk_27 (dk_at dksJ14_substring_2_0 5 rfl rfl)
theorem dJ14_substring_2_6 : decode cJ14_substring_2 6 = .ok (.iload_n 2, 1) := dk_28 (dk_at dksJ14_substring_2_0 6 rfl rfl)
theorem dJ14_substring_2_7 : decode cJ14_substring_2 7 = .ok (.iload_n 3, 1) := dk_29 (dk_at dksJ14_substring_2_0 7 rfl rfl)
theorem dJ14_substring_2_8 : decode cJ14_substring_2 8 = .ok (.invokestatic 521, 3) := dk_184 2 9 (dk_at dksJ14_substring_2_0 8 rfl rfl)
theorem dJ14_substring_2_11 : decode cJ14_substring_2 11 = .ok (.iload_n 1, 1) := dk_27 (dk_at dksJ14_substring_2_0 11 rfl rfl)
theorem dJ14_substring_2_12 : decode cJ14_substring_2 12 = .ok (.ifCond .ne 10, 3) := dk_154 0 10 (dk_at dksJ14_substring_2_0 12 rfl rfl)
theorem dJ14_substring_2_15 : decode cJ14_substring_2 15 = .ok (.iload_n 2, 1) := dk_28 (dk_at dksJ14_substring_2_0 15 rfl rfl)
theorem dJ14_substring_2_16 : decode cJ14_substring_2 16 = .ok (.iload_n 3, 1) := dk_29 (dk_at dksJ14_substring_2_0 16 rfl rfl)
theorem dJ14_substring_2_17 : decode cJ14_substring_2 17 = .ok (.if_icmp .ne 5, 3) := dk_160 0 5 (dk_at dksJ14_substring_2_0 17 rfl rfl)
theorem dJ14_substring_2_20 : decode cJ14_substring_2 20 = .ok (.aload_n 0, 1) := dk_42 (dk_at dksJ14_substring_2_0 20 rfl rfl)
theorem dJ14_substring_2_21 : decode cJ14_substring_2 21 = .ok (.areturn, 1) := dk_176 (dk_at dksJ14_substring_2_0 21 rfl rfl)
theorem dJ14_substring_2_22 : decode cJ14_substring_2 22 = .ok (.iload_n 2, 1) := dk_28 (dk_at dksJ14_substring_2_0 22 rfl rfl)
theorem dJ14_substring_2_23 : decode cJ14_substring_2 23 = .ok (.iload_n 1, 1) := dk_27 (dk_at dksJ14_substring_2_0 23 rfl rfl)
theorem dJ14_substring_2_24 : decode cJ14_substring_2 24 = .ok (.isub, 1) := dk_100 (dk_at dksJ14_substring_2_1 0 rfl rfl)
theorem dJ14_substring_2_25 : decode cJ14_substring_2 25 = .ok (.istore 4, 2) := dk_54 4 (dk_at dksJ14_substring_2_1 1 rfl rfl)
theorem dJ14_substring_2_27 : decode cJ14_substring_2 27 = .ok (.aload_n 0, 1) := dk_42 (dk_at dksJ14_substring_2_1 3 rfl rfl)
theorem dJ14_substring_2_28 : decode cJ14_substring_2 28 = .ok (.invokevirtual 492, 3) := dk_182 1 236 (dk_at dksJ14_substring_2_1 4 rfl rfl)
theorem dJ14_substring_2_31 : decode cJ14_substring_2 31 = .ok (.ifCond .eq 16, 3) := dk_153 0 16 (dk_at dksJ14_substring_2_1 7 rfl rfl)
theorem dJ14_substring_2_34 : decode cJ14_substring_2 34 = .ok (.aload_n 0, 1) := dk_42 (dk_at dksJ14_substring_2_1 10 rfl rfl)
theorem dJ14_substring_2_35 : decode cJ14_substring_2 35 = .ok (.getfield 9, 3) := dk_180 0 9 (dk_at dksJ14_substring_2_1 11 rfl rfl)
theorem dJ14_substring_2_38 : decode cJ14_substring_2 38 = .ok (.iload_n 1, 1) := dk_27 (dk_at dksJ14_substring_2_1 14 rfl rfl)
theorem dJ14_substring_2_39 : decode cJ14_substring_2 39 = .ok (.iload 4, 2) := dk_21 4 (dk_at dksJ14_substring_2_1 15 rfl rfl)
theorem dJ14_substring_2_41 : decode cJ14_substring_2 41 = .ok (.invokestatic 685, 3) := dk_184 2 173 (dk_at dksJ14_substring_2_1 17 rfl rfl)
theorem dJ14_substring_2_44 : decode cJ14_substring_2 44 = .ok (.goto 13, 3) := dk_167 0 13 (dk_at dksJ14_substring_2_1 20 rfl rfl)
theorem dJ14_substring_2_47 : decode cJ14_substring_2 47 = .ok (.aload_n 0, 1) := dk_42 (dk_at dksJ14_substring_2_1 23 rfl rfl)
theorem dJ14_substring_2_48 : decode cJ14_substring_2 48 = .ok (.getfield 9, 3) := dk_180 0 9 (dk_at dksJ14_substring_2_2 0 rfl rfl)
theorem dJ14_substring_2_51 : decode cJ14_substring_2 51 = .ok (.iload_n 1, 1) := dk_27 (dk_at dksJ14_substring_2_2 3 rfl rfl)
theorem dJ14_substring_2_52 : decode cJ14_substring_2 52 = .ok (.iload 4, 2) := dk_21 4 (dk_at dksJ14_substring_2_2 4 rfl rfl)
theorem dJ14_substring_2_54 : decode cJ14_substring_2 54 = .ok (.invokestatic 689, 3) := dk_184 2 177 (dk_at dksJ14_substring_2_2 6 rfl rfl)
theorem dJ14_substring_2_57 : decode cJ14_substring_2 57 = .ok (.areturn, 1) := dk_176 (dk_at dksJ14_substring_2_2 9 rfl rfl)
abbrev cJ14_init_3 : ByteArray := prog_32_method_151_code
def yJ14_init_3 : MethodName := ⟨RJ14, "<init>", "([BB)V"⟩
def dkwJ14_init_3_0 : List UInt8 := [42, 183, 0, 1, 42, 43, 181, 0, 9, 42, 28, 181, 0, 15, 177]
abbrev dktJ14_init_3_0 : List UInt8 := dkwJ14_init_3_0 ++ []
theorem dksJ14_init_3_0 : cJ14_init_3.data.toList.drop 0 = dktJ14_init_3_0 := by decide +kernel
theorem dJ14_init_3_0 : decode cJ14_init_3 0 = .ok (.aload_n 0, 1) := dk_42 (dk_at dksJ14_init_3_0 0 rfl rfl)
theorem dJ14_init_3_1 : decode cJ14_init_3 1 = .ok (.invokespecial 1, 3) := dk_183 0 1 (dk_at dksJ14_init_3_0 1 rfl rfl)
theorem dJ14_init_3_4 : decode cJ14_init_3 4 = .ok (.aload_n 0, 1) := dk_42 (dk_at dksJ14_init_3_0 4 rfl rfl)
theorem dJ14_init_3_5 : decode cJ14_init_3 5 = .ok (.aload_n 1, 1) := dk_43 (dk_at dksJ14_init_3_0 5 rfl rfl)
theorem dJ14_init_3_6 : decode cJ14_init_3 6 = .ok (.putfield 9, 3) := dk_181 0 9 (dk_at dksJ14_init_3_0 6 rfl rfl)
theorem dJ14_init_3_9 : decode cJ14_init_3 9 = .ok (.aload_n 0, 1) := dk_42 (dk_at dksJ14_init_3_0 9 rfl rfl)
theorem dJ14_init_3_10 : decode cJ14_init_3 10 = .ok (.iload_n 2, 1) := dk_28 (dk_at dksJ14_init_3_0 10 rfl rfl)
theorem dJ14_init_3_11 : decode cJ14_init_3 11 = .ok (.putfield 15, 3) := dk_181 0 15 (dk_at dksJ14_init_3_0 11 rfl rfl)
theorem dJ14_init_3_14 : decode cJ14_init_3 14 = .ok (.return_, 1) := dk_177 (dk_at dksJ14_init_3_0 14 rfl rfl)
abbrev cJ14_isEmpty : ByteArray := prog_32_method_55_code
def yJ14_isEmpty : MethodName := ⟨RJ14, "isEmpty", "()Z"⟩
def dkwJ14_isEmpty_0 : List UInt8 := [42, 180, 0, 9, 190, 154, 0, 7, 4, 167, 0, 4, 3, 172]
abbrev dktJ14_isEmpty_0 : List UInt8 := dkwJ14_isEmpty_0 ++ []
theorem dksJ14_isEmpty_0 : cJ14_isEmpty.data.toList.drop 0 = dktJ14_isEmpty_0 := by decide +kernel
theorem dJ14_isEmpty_0 : decode cJ14_isEmpty 0 = .ok (.aload_n 0, 1) := dk_42 (dk_at dksJ14_isEmpty_0 0 rfl rfl)
theorem dJ14_isEmpty_1 : decode cJ14_isEmpty 1 = .ok (.getfield 9, 3) := dk_180 0 9 (dk_at dksJ14_isEmpty_0 1 rfl rfl)
theorem dJ14_isEmpty_4 : decode cJ14_isEmpty 4 = .ok (.arraylength, 1) := dk_190 (dk_at dksJ14_isEmpty_0 4 rfl rfl)
theorem dJ14_isEmpty_5 : decode cJ14_isEmpty 5 = .ok (.ifCond .ne 7, 3) := dk_154 0 7 (dk_at dksJ14_isEmpty_0 5 rfl rfl)
theorem dJ14_isEmpty_8 : decode cJ14_isEmpty 8 = .ok (.iconst 1, 1) := dk_4 (dk_at dksJ14_isEmpty_0 8 rfl rfl)
theorem dJ14_isEmpty_9 : decode cJ14_isEmpty 9 = .ok (.goto 4, 3) := dk_167 0 4 (dk_at dksJ14_isEmpty_0 9 rfl rfl)
theorem dJ14_isEmpty_12 : decode cJ14_isEmpty 12 = .ok (.iconst 0, 1) := dk_3 (dk_at dksJ14_isEmpty_0 12 rfl rfl)
theorem dJ14_isEmpty_13 : decode cJ14_isEmpty 13 = .ok (.ireturn, 1) := dk_172 (dk_at dksJ14_isEmpty_0 13 rfl rfl)
theorem q135 : (Jvm.Cond.initialized "java/lang/String") ∈ lw_all := lw_g (lw_at lw_m1 20 rfl) rfl
theorem q452 : (Jvm.Cond.instanceMethod ({ cls := "java/lang/String", name := "length", desc := "()I" } : Jvm.MethodName)) ∈ lw_all := lw_g (lw_at lw_m2 97 rfl) rfl
theorem q453 : (Jvm.Cond.selects "java/lang/String" ({ cls := "java/lang/String", name := "length", desc := "()I" } : Jvm.MethodName) ({ cls := "java/lang/String", name := "length", desc := "()I" } : Jvm.MethodName)) ∈ lw_all := lw_g (lw_at lw_m2 98 rfl) rfl
theorem q454 : (Jvm.Cond.code ({ cls := "java/lang/String", name := "length", desc := "()I" } : Jvm.MethodName) prog_32_method_54_code (1 : Nat) (Option.some Jvm.ClassFile.FieldType.int)) ∈ lw_all := lw_g (lw_at lw_m2 99 rfl) rfl
theorem q455 : (Jvm.Cond.methodLink "java/lang/String" (335 : Nat) ({ cls := "java/lang/String", name := "coder", desc := "()B" } : Jvm.MethodName)) ∈ lw_all := lw_g (lw_at lw_m2 100 rfl) rfl
theorem q456 : (Jvm.Cond.instanceMethod ({ cls := "java/lang/String", name := "coder", desc := "()B" } : Jvm.MethodName)) ∈ lw_all := lw_g (lw_at lw_m2 101 rfl) rfl
theorem q457 : (Jvm.Cond.selects "java/lang/String" ({ cls := "java/lang/String", name := "coder", desc := "()B" } : Jvm.MethodName) ({ cls := "java/lang/String", name := "coder", desc := "()B" } : Jvm.MethodName)) ∈ lw_all := lw_g (lw_at lw_m2 102 rfl) rfl
theorem q458 : (Jvm.Cond.code ({ cls := "java/lang/String", name := "coder", desc := "()B" } : Jvm.MethodName) prog_32_method_152_code (1 : Nat) (Option.some Jvm.ClassFile.FieldType.byte)) ∈ lw_all := lw_g (lw_at lw_m2 103 rfl) rfl
theorem q459 : (Jvm.Cond.fieldLink "java/lang/String" (38 : Nat) "java/lang/String" "COMPACT_STRINGS" "Z") ∈ lw_all := lw_g (lw_at lw_m2 104 rfl) rfl
theorem q460 : (Jvm.Cond.laysStatic "java/lang/String" "COMPACT_STRINGS" "Z") ∈ lw_tbl := lw_at lw_m2 105 rfl
theorem q471 : (Jvm.Cond.instanceMethod ({ cls := "java/lang/String", name := "charAt", desc := "(I)C" } : Jvm.MethodName)) ∈ lw_all := lw_g (lw_at lw_m2 116 rfl) rfl
theorem q472 : (Jvm.Cond.selects "java/lang/String" ({ cls := "java/lang/String", name := "charAt", desc := "(I)C" } : Jvm.MethodName) ({ cls := "java/lang/String", name := "charAt", desc := "(I)C" } : Jvm.MethodName)) ∈ lw_all := lw_g (lw_at lw_m2 117 rfl) rfl
theorem q473 : (Jvm.Cond.code ({ cls := "java/lang/String", name := "charAt", desc := "(I)C" } : Jvm.MethodName) prog_32_method_56_code (2 : Nat) (Option.some Jvm.ClassFile.FieldType.char)) ∈ lw_all := lw_g (lw_at lw_m2 118 rfl) rfl
theorem q474 : (Jvm.Cond.methodLink "java/lang/String" (492 : Nat) ({ cls := "java/lang/String", name := "isLatin1", desc := "()Z" } : Jvm.MethodName)) ∈ lw_all := lw_g (lw_at lw_m2 119 rfl) rfl
theorem q475 : (Jvm.Cond.instanceMethod ({ cls := "java/lang/String", name := "isLatin1", desc := "()Z" } : Jvm.MethodName)) ∈ lw_all := lw_g (lw_at lw_m2 120 rfl) rfl
theorem q476 : (Jvm.Cond.selects "java/lang/String" ({ cls := "java/lang/String", name := "isLatin1", desc := "()Z" } : Jvm.MethodName) ({ cls := "java/lang/String", name := "isLatin1", desc := "()Z" } : Jvm.MethodName)) ∈ lw_all := lw_g (lw_at lw_m2 121 rfl) rfl
theorem q477 : (Jvm.Cond.code ({ cls := "java/lang/String", name := "isLatin1", desc := "()Z" } : Jvm.MethodName) prog_32_method_154_code (1 : Nat) (Option.some Jvm.ClassFile.FieldType.boolean)) ∈ lw_all := lw_g (lw_at lw_m2 122 rfl) rfl
theorem q478 : (Jvm.Cond.methodLink "java/lang/String" (495 : Nat) ({ cls := "java/lang/StringLatin1", name := "charAt", desc := "([BI)C" } : Jvm.MethodName)) ∈ lw_all := lw_g (lw_at lw_m2 123 rfl) rfl
theorem q482 : (Jvm.Cond.static ({ cls := "java/lang/String", name := "checkIndex", desc := "(II)V" } : Jvm.MethodName)) ∈ lw_all := lw_g (lw_at lw_m2 127 rfl) rfl
theorem q483 : (Jvm.Cond.code ({ cls := "java/lang/String", name := "checkIndex", desc := "(II)V" } : Jvm.MethodName) prog_32_method_155_code (2 : Nat) (Option.none : Option Jvm.ClassFile.FieldType)) ∈ lw_all := lw_g (lw_at lw_m2 128 rfl) rfl
theorem q484 : (Jvm.Cond.fieldLink "java/lang/String" (1053 : Nat) "jdk/internal/util/Preconditions" "SIOOBE_FORMATTER" "Ljava/util/function/BiFunction;") ∈ lw_all := lw_g (lw_at lw_m2 129 rfl) rfl
theorem q486 : (Jvm.Cond.methodLink "java/lang/String" (1059 : Nat) ({ cls := "jdk/internal/util/Preconditions", name := "checkIndex", desc := "(IILjava/util/function/BiFunction;)I" } : Jvm.MethodName)) ∈ lw_all := lw_g (lw_at lw_m2 131 rfl) rfl
theorem q489 : (Jvm.Cond.methodLink "java/lang/String" (498 : Nat) ({ cls := "java/lang/StringUTF16", name := "charAt", desc := "([BI)C" } : Jvm.MethodName)) ∈ lw_all := lw_g (lw_at lw_m2 134 rfl) rfl
theorem q680 : (Jvm.Cond.selects "java/lang/String" ({ cls := "java/lang/Object", name := "getClass", desc := "()Ljava/lang/Class;" } : Jvm.MethodName) ({ cls := "java/lang/Object", name := "getClass", desc := "()Ljava/lang/Class;" } : Jvm.MethodName)) ∈ lw_all := lw_g (lw_at lw_m3 85 rfl) rfl
theorem q795 : (Jvm.Cond.fieldLink "java/lang/String" (1048 : Nat) "java/lang/AbstractStringBuilder" "maybeLatin1" "Z") ∈ lw_all := lw_g (lw_at lw_m3 200 rfl) rfl
theorem q864 : (Jvm.Cond.static ({ cls := "java/lang/String", name := "checkBoundsOffCount", desc := "(III)I" } : Jvm.MethodName)) ∈ lw_all := lw_g (lw_at lw_m4 29 rfl) rfl
theorem q865 : (Jvm.Cond.code ({ cls := "java/lang/String", name := "checkBoundsOffCount", desc := "(III)I" } : Jvm.MethodName) prog_32_method_157_code (3 : Nat) (Option.some Jvm.ClassFile.FieldType.int)) ∈ lw_all := lw_g (lw_at lw_m4 30 rfl) rfl
theorem q866 : (Jvm.Cond.methodLink "java/lang/String" (1065 : Nat) ({ cls := "jdk/internal/util/Preconditions", name := "checkFromIndexSize", desc := "(IIILjava/util/function/BiFunction;)I" } : Jvm.MethodName)) ∈ lw_all := lw_g (lw_at lw_m4 31 rfl) rfl
theorem q880 : (Jvm.Cond.instantiable "java/lang/String" (4 : Nat)) ∈ lw_all := lw_g (lw_at lw_m4 45 rfl) rfl
theorem q882 : (Jvm.Cond.instanceMethod ({ cls := "java/lang/String", name := "<init>", desc := "(Ljava/lang/StringBuilder;)V" } : Jvm.MethodName)) ∈ lw_all := lw_g (lw_at lw_m4 47 rfl) rfl
theorem q883 : (Jvm.Cond.code ({ cls := "java/lang/String", name := "<init>", desc := "(Ljava/lang/StringBuilder;)V" } : Jvm.MethodName) prog_32_method_53_code (2 : Nat) (Option.none : Option Jvm.ClassFile.FieldType)) ∈ lw_all := lw_g (lw_at lw_m4 48 rfl) rfl
theorem q884 : (Jvm.Cond.methodLink "java/lang/String" (489 : Nat) ({ cls := "java/lang/String", name := "<init>", desc := "(Ljava/lang/AbstractStringBuilder;Ljava/lang/Void;)V" } : Jvm.MethodName)) ∈ lw_all := lw_g (lw_at lw_m4 49 rfl) rfl
theorem q885 : (Jvm.Cond.instanceMethod ({ cls := "java/lang/String", name := "<init>", desc := "(Ljava/lang/AbstractStringBuilder;Ljava/lang/Void;)V" } : Jvm.MethodName)) ∈ lw_all := lw_g (lw_at lw_m4 50 rfl) rfl
theorem q886 : (Jvm.Cond.code ({ cls := "java/lang/String", name := "<init>", desc := "(Ljava/lang/AbstractStringBuilder;Ljava/lang/Void;)V" } : Jvm.MethodName) prog_32_method_150_code (5 : Nat) (Option.none : Option Jvm.ClassFile.FieldType)) ∈ lw_all := lw_g (lw_at lw_m4 51 rfl) rfl
theorem q887 : (Jvm.Cond.methodLink "java/lang/String" (1 : Nat) ({ cls := "java/lang/Object", name := "<init>", desc := "()V" } : Jvm.MethodName)) ∈ lw_all := lw_g (lw_at lw_m4 52 rfl) rfl
theorem q888 : (Jvm.Cond.methodLink "java/lang/String" (552 : Nat) ({ cls := "java/lang/AbstractStringBuilder", name := "getValue", desc := "()[B" } : Jvm.MethodName)) ∈ lw_all := lw_g (lw_at lw_m4 53 rfl) rfl
theorem q893 : (Jvm.Cond.methodLink "java/lang/String" (549 : Nat) ({ cls := "java/lang/AbstractStringBuilder", name := "length", desc := "()I" } : Jvm.MethodName)) ∈ lw_all := lw_g (lw_at lw_m4 58 rfl) rfl
theorem q901 : (Jvm.Cond.methodLink "java/lang/String" (1047 : Nat) ({ cls := "java/lang/AbstractStringBuilder", name := "isLatin1", desc := "()Z" } : Jvm.MethodName)) ∈ lw_all := lw_g (lw_at lw_m4 66 rfl) rfl
theorem q902 : (Jvm.Cond.methodLink "java/lang/String" (54 : Nat) ({ cls := "java/util/Arrays", name := "copyOfRange", desc := "([BII)[B" } : Jvm.MethodName)) ∈ lw_all := lw_g (lw_at lw_m4 67 rfl) rfl
theorem q946 : (Jvm.Cond.static ({ cls := "java/lang/String", name := "checkBoundsBeginEnd", desc := "(III)V" } : Jvm.MethodName)) ∈ lw_all := lw_g (lw_at lw_m4 111 rfl) rfl
theorem q947 : (Jvm.Cond.code ({ cls := "java/lang/String", name := "checkBoundsBeginEnd", desc := "(III)V" } : Jvm.MethodName) prog_32_method_158_code (3 : Nat) (Option.none : Option Jvm.ClassFile.FieldType)) ∈ lw_all := lw_g (lw_at lw_m4 112 rfl) rfl
theorem q948 : (Jvm.Cond.methodLink "java/lang/String" (1062 : Nat) ({ cls := "jdk/internal/util/Preconditions", name := "checkFromToIndex", desc := "(IIILjava/util/function/BiFunction;)I" } : Jvm.MethodName)) ∈ lw_all := lw_g (lw_at lw_m4 113 rfl) rfl
theorem q982 : (Jvm.Cond.instanceMethod ({ cls := "java/lang/String", name := "getBytes", desc := "([BIB)V" } : Jvm.MethodName)) ∈ lw_all := lw_g (lw_at lw_m4 147 rfl) rfl
theorem q983 : (Jvm.Cond.selects "java/lang/String" ({ cls := "java/lang/String", name := "getBytes", desc := "([BIB)V" } : Jvm.MethodName) ({ cls := "java/lang/String", name := "getBytes", desc := "([BIB)V" } : Jvm.MethodName)) ∈ lw_all := lw_g (lw_at lw_m4 148 rfl) rfl
theorem q984 : (Jvm.Cond.code ({ cls := "java/lang/String", name := "getBytes", desc := "([BIB)V" } : Jvm.MethodName) prog_32_method_147_code (4 : Nat) (Option.none : Option Jvm.ClassFile.FieldType)) ∈ lw_all := lw_g (lw_at lw_m4 149 rfl) rfl
theorem q985 : (Jvm.Cond.methodLink "java/lang/String" (212 : Nat) ({ cls := "java/lang/System", name := "arraycopy", desc := "(Ljava/lang/Object;ILjava/lang/Object;II)V" } : Jvm.MethodName)) ∈ lw_all := lw_g (lw_at lw_m4 150 rfl) rfl
theorem q986 : (Jvm.Cond.methodLink "java/lang/String" (106 : Nat) ({ cls := "java/lang/StringLatin1", name := "inflate", desc := "([BI[BII)V" } : Jvm.MethodName)) ∈ lw_all := lw_g (lw_at lw_m4 151 rfl) rfl
theorem q1002 : (Jvm.Cond.methodLink "java/lang/String" (1051 : Nat) ({ cls := "java/lang/StringUTF16", name := "compress", desc := "([BII)[B" } : Jvm.MethodName)) ∈ lw_all := lw_g (lw_at lw_m4 167 rfl) rfl
theorem q1009 : (Jvm.Cond.methodLink "java/lang/String" (47 : Nat) ({ cls := "java/lang/StringUTF16", name := "coderFromArrayLen", desc := "([BI)B" } : Jvm.MethodName)) ∈ lw_all := lw_g (lw_at lw_m4 174 rfl) rfl
theorem q1012 : (Jvm.Cond.fieldLink "java/lang/String" (9 : Nat) "java/lang/String" "value" "[B") ∈ lw_all := lw_g (lw_at lw_m4 177 rfl) rfl
theorem q1013 : (Jvm.Cond.fieldLink "java/lang/String" (15 : Nat) "java/lang/String" "coder" "B") ∈ lw_all := lw_g (lw_at lw_m4 178 rfl) rfl
theorem q1014 : (Jvm.Cond.fieldLink "java/lang/String" (19 : Nat) "java/lang/String" "hash" "I") ∈ lw_all := lw_g (lw_at lw_m4 179 rfl) rfl
theorem q1015 : (Jvm.Cond.fieldLink "java/lang/String" (23 : Nat) "java/lang/String" "hashIsZero" "Z") ∈ lw_all := lw_g (lw_at lw_m4 180 rfl) rfl
theorem q1016 : (Jvm.Cond.laysFinal "java/lang/String" "java/lang/String" "value" "[B") ∈ lw_all := lw_g (lw_at lw_m4 181 rfl) rfl
theorem q1017 : (Jvm.Cond.soleField "java/lang/String" "value") ∈ lw_all := lw_g (lw_at lw_m4 182 rfl) rfl
theorem q1018 : (Jvm.Cond.laysFinal "java/lang/String" "java/lang/String" "coder" "B") ∈ lw_all := lw_g (lw_at lw_m4 183 rfl) rfl
theorem q1019 : (Jvm.Cond.soleField "java/lang/String" "coder") ∈ lw_all := lw_g (lw_at lw_m4 184 rfl) rfl
theorem q1020 : (Jvm.Cond.lays "java/lang/String" "java/lang/String" "hash" "I") ∈ lw_all := lw_g (lw_at lw_m4 185 rfl) rfl
theorem q1021 : (Jvm.Cond.soleField "java/lang/String" "hash") ∈ lw_all := lw_g (lw_at lw_m4 186 rfl) rfl
theorem q1022 : (Jvm.Cond.lays "java/lang/String" "java/lang/String" "hashIsZero" "Z") ∈ lw_all := lw_g (lw_at lw_m4 187 rfl) rfl
theorem q1023 : (Jvm.Cond.soleField "java/lang/String" "hashIsZero") ∈ lw_all := lw_g (lw_at lw_m4 188 rfl) rfl
theorem q1024 : (Jvm.Cond.superclass "java/lang/String" "java/lang/Object") ∈ lw_all := lw_g (lw_at lw_m4 189 rfl) rfl
theorem q1026 : (Jvm.Cond.instanceMethod ({ cls := "java/lang/String", name := "equals", desc := "(Ljava/lang/Object;)Z" } : Jvm.MethodName)) ∈ lw_all := lw_g (lw_at lw_m4 191 rfl) rfl
theorem q1027 : (Jvm.Cond.selects "java/lang/String" ({ cls := "java/lang/String", name := "equals", desc := "(Ljava/lang/Object;)Z" } : Jvm.MethodName) ({ cls := "java/lang/String", name := "equals", desc := "(Ljava/lang/Object;)Z" } : Jvm.MethodName)) ∈ lw_all := lw_g (lw_at lw_m4 192 rfl) rfl
theorem q1028 : (Jvm.Cond.code ({ cls := "java/lang/String", name := "equals", desc := "(Ljava/lang/Object;)Z" } : Jvm.MethodName) prog_32_method_66_code (3 : Nat) (Option.some Jvm.ClassFile.FieldType.boolean)) ∈ lw_all := lw_g (lw_at lw_m4 193 rfl) rfl
theorem q1029 : (Jvm.Cond.classLink "java/lang/String" (10 : Nat) "java/lang/String") ∈ lw_all := lw_g (lw_at lw_m4 194 rfl) rfl
theorem q1030 : (Jvm.Cond.methodLink "java/lang/String" (541 : Nat) ({ cls := "java/lang/StringLatin1", name := "equals", desc := "([B[B)Z" } : Jvm.MethodName)) ∈ lw_all := lw_g (lw_at lw_m4 195 rfl) rfl
theorem q1074 : (Jvm.Cond.instanceMethod ({ cls := "java/lang/String", name := "hashCode", desc := "()I" } : Jvm.MethodName)) ∈ lw_all := lw_g (lw_at lw_m4 239 rfl) rfl
theorem q1075 : (Jvm.Cond.selects "java/lang/String" ({ cls := "java/lang/String", name := "hashCode", desc := "()I" } : Jvm.MethodName) ({ cls := "java/lang/String", name := "hashCode", desc := "()I" } : Jvm.MethodName)) ∈ lw_all := lw_g (lw_at lw_m5 0 rfl) rfl
theorem q1076 : (Jvm.Cond.code ({ cls := "java/lang/String", name := "hashCode", desc := "()I" } : Jvm.MethodName) prog_32_method_78_code (2 : Nat) (Option.some Jvm.ClassFile.FieldType.int)) ∈ lw_all := lw_g (lw_at lw_m5 1 rfl) rfl
theorem q1077 : (Jvm.Cond.methodLink "java/lang/String" (628 : Nat) ({ cls := "java/lang/StringLatin1", name := "hashCode", desc := "([B)I" } : Jvm.MethodName)) ∈ lw_all := lw_g (lw_at lw_m5 2 rfl) rfl
theorem q1126 : (Jvm.Cond.methodLink "java/lang/String" (632 : Nat) ({ cls := "java/lang/StringUTF16", name := "hashCode", desc := "([B)I" } : Jvm.MethodName)) ∈ lw_all := lw_g (lw_at lw_m5 51 rfl) rfl
theorem q1206 : (Jvm.Cond.selects "java/lang/String" ({ cls := "java/lang/Object", name := "equals", desc := "(Ljava/lang/Object;)Z" } : Jvm.MethodName) ({ cls := "java/lang/String", name := "equals", desc := "(Ljava/lang/Object;)Z" } : Jvm.MethodName)) ∈ lw_all := lw_g (lw_at lw_m5 131 rfl) rfl
theorem q2192 : (Jvm.Cond.instanceMethod ({ cls := "java/lang/String", name := "substring", desc := "(I)Ljava/lang/String;" } : Jvm.MethodName)) ∈ lw_all := lw_g (lw_at lw_m9 157 rfl) rfl
theorem q2193 : (Jvm.Cond.selects "java/lang/String" ({ cls := "java/lang/String", name := "substring", desc := "(I)Ljava/lang/String;" } : Jvm.MethodName) ({ cls := "java/lang/String", name := "substring", desc := "(I)Ljava/lang/String;" } : Jvm.MethodName)) ∈ lw_all := lw_g (lw_at lw_m9 158 rfl) rfl
theorem q2194 : (Jvm.Cond.code ({ cls := "java/lang/String", name := "substring", desc := "(I)Ljava/lang/String;" } : Jvm.MethodName) prog_32_method_91_code (2 : Nat) (Option.some (Jvm.ClassFile.FieldType.object "java/lang/String"))) ∈ lw_all := lw_g (lw_at lw_m9 159 rfl) rfl
theorem q2195 : (Jvm.Cond.methodLink "java/lang/String" (505 : Nat) ({ cls := "java/lang/String", name := "length", desc := "()I" } : Jvm.MethodName)) ∈ lw_all := lw_g (lw_at lw_m9 160 rfl) rfl
theorem q2196 : (Jvm.Cond.methodLink "java/lang/String" (681 : Nat) ({ cls := "java/lang/String", name := "substring", desc := "(II)Ljava/lang/String;" } : Jvm.MethodName)) ∈ lw_all := lw_g (lw_at lw_m9 161 rfl) rfl
theorem q2197 : (Jvm.Cond.instanceMethod ({ cls := "java/lang/String", name := "substring", desc := "(II)Ljava/lang/String;" } : Jvm.MethodName)) ∈ lw_all := lw_g (lw_at lw_m9 162 rfl) rfl
theorem q2198 : (Jvm.Cond.selects "java/lang/String" ({ cls := "java/lang/String", name := "substring", desc := "(II)Ljava/lang/String;" } : Jvm.MethodName) ({ cls := "java/lang/String", name := "substring", desc := "(II)Ljava/lang/String;" } : Jvm.MethodName)) ∈ lw_all := lw_g (lw_at lw_m9 163 rfl) rfl
theorem q2199 : (Jvm.Cond.code ({ cls := "java/lang/String", name := "substring", desc := "(II)Ljava/lang/String;" } : Jvm.MethodName) prog_32_method_92_code (5 : Nat) (Option.some (Jvm.ClassFile.FieldType.object "java/lang/String"))) ∈ lw_all := lw_g (lw_at lw_m9 164 rfl) rfl
theorem q2200 : (Jvm.Cond.methodLink "java/lang/String" (521 : Nat) ({ cls := "java/lang/String", name := "checkBoundsBeginEnd", desc := "(III)V" } : Jvm.MethodName)) ∈ lw_all := lw_g (lw_at lw_m9 165 rfl) rfl
theorem q2201 : (Jvm.Cond.methodLink "java/lang/String" (685 : Nat) ({ cls := "java/lang/StringLatin1", name := "newString", desc := "([BII)Ljava/lang/String;" } : Jvm.MethodName)) ∈ lw_all := lw_g (lw_at lw_m9 166 rfl) rfl
theorem q2208 : (Jvm.Cond.instanceMethod ({ cls := "java/lang/String", name := "<init>", desc := "([BB)V" } : Jvm.MethodName)) ∈ lw_all := lw_g (lw_at lw_m9 173 rfl) rfl
theorem q2209 : (Jvm.Cond.code ({ cls := "java/lang/String", name := "<init>", desc := "([BB)V" } : Jvm.MethodName) prog_32_method_151_code (3 : Nat) (Option.none : Option Jvm.ClassFile.FieldType)) ∈ lw_all := lw_g (lw_at lw_m9 174 rfl) rfl
theorem q2210 : (Jvm.Cond.methodLink "java/lang/String" (689 : Nat) ({ cls := "java/lang/StringUTF16", name := "newString", desc := "([BII)Ljava/lang/String;" } : Jvm.MethodName)) ∈ lw_all := lw_g (lw_at lw_m9 175 rfl) rfl
theorem q2224 : (Jvm.Cond.instanceMethod ({ cls := "java/lang/String", name := "isEmpty", desc := "()Z" } : Jvm.MethodName)) ∈ lw_all := lw_g (lw_at lw_m9 189 rfl) rfl
theorem q2225 : (Jvm.Cond.selects "java/lang/String" ({ cls := "java/lang/String", name := "isEmpty", desc := "()Z" } : Jvm.MethodName) ({ cls := "java/lang/String", name := "isEmpty", desc := "()Z" } : Jvm.MethodName)) ∈ lw_all := lw_g (lw_at lw_m9 190 rfl) rfl
theorem q2226 : (Jvm.Cond.code ({ cls := "java/lang/String", name := "isEmpty", desc := "()Z" } : Jvm.MethodName) prog_32_method_55_code (1 : Nat) (Option.some Jvm.ClassFile.FieldType.boolean)) ∈ lw_all := lw_g (lw_at lw_m9 191 rfl) rfl
theorem q2863 : (Jvm.Cond.castable "java/lang/String" "java/lang/Object") ∈ lw_tbl := lw_at lw_m12 108 rfl
theorem in_J14 : ∀ w ∈ wsJ140, w ∈ lw_all := lw_in wsJ140 [1016, 1018, 1020, 1022] (by decide +kernel) (by decide +kernel)
/-! java/lang/StringUTF16 -/
set_option maxRecDepth 100000
def RJ15 : String := "java/lang/StringUTF16"
abbrev cJ15_charAt : ByteArray := prog_35_method_83_code
def yJ15_charAt : MethodName := ⟨RJ15, "charAt", "([BI)C"⟩
def dkwJ15_charAt_0 : List UInt8 := [27, 42, 184, 0, 67, 42, 27, 184, 0, 71, 172]
abbrev dktJ15_charAt_0 : List UInt8 := dkwJ15_charAt_0 ++ []
theorem dksJ15_charAt_0 : cJ15_charAt.data.toList.drop 0 = dktJ15_charAt_0 := by decide +kernel
theorem dJ15_charAt_0 : decode cJ15_charAt 0 = .ok (.iload_n 1, 1) := dk_27 (dk_at dksJ15_charAt_0 0 rfl rfl)
theorem dJ15_charAt_1 : decode cJ15_charAt 1 = .ok (.aload_n 0, 1) := dk_42 (dk_at dksJ15_charAt_0 1 rfl rfl)
theorem dJ15_charAt_2 : decode cJ15_charAt 2 = .ok (.invokestatic 67, 3) := dk_184 0 67 (dk_at dksJ15_charAt_0 2 rfl rfl)
theorem dJ15_charAt_5 : decode cJ15_charAt 5 = .ok (.aload_n 0, 1) := dk_42 (dk_at dksJ15_charAt_0 5 rfl rfl)
theorem dJ15_charAt_6 : decode cJ15_charAt 6 = .ok (.iload_n 1, 1) := dk_27 (dk_at dksJ15_charAt_0 6 rfl rfl)
theorem dJ15_charAt_7 : decode cJ15_charAt 7 = .ok (.invokestatic 71, 3) := dk_184 0 71 (dk_at dksJ15_charAt_0 7 rfl rfl)
theorem dJ15_charAt_10 : decode cJ15_charAt 10 = .ok (.ireturn, 1) := dk_172 (dk_at dksJ15_charAt_0 10 rfl rfl)
abbrev cJ15_checkIndex : ByteArray := prog_35_method_91_code
def yJ15_checkIndex : MethodName := ⟨RJ15, "checkIndex", "(I[B)V"⟩
def dkwJ15_checkIndex_0 : List UInt8 := [26, 43, 184, 0, 48, 184, 1, 158, 177]
abbrev dktJ15_checkIndex_0 : List UInt8 := dkwJ15_checkIndex_0 ++ []
theorem dksJ15_checkIndex_0 : cJ15_checkIndex.data.toList.drop 0 = dktJ15_checkIndex_0 := by decide +kernel
theorem dJ15_checkIndex_0 : decode cJ15_checkIndex 0 = .ok (.iload_n 0, 1) := dk_26 (dk_at dksJ15_checkIndex_0 0 rfl rfl)
theorem dJ15_checkIndex_1 : decode cJ15_checkIndex 1 = .ok (.aload_n 1, 1) := dk_43 (dk_at dksJ15_checkIndex_0 1 rfl rfl)
theorem dJ15_checkIndex_2 : decode cJ15_checkIndex 2 = .ok (.invokestatic 48, 3) := dk_184 0 48 (dk_at dksJ15_checkIndex_0 2 rfl rfl)
theorem dJ15_checkIndex_5 : decode cJ15_checkIndex 5 = .ok (.invokestatic 414, 3) := dk_184 1 158 (dk_at dksJ15_checkIndex_0 5 rfl rfl)
theorem dJ15_checkIndex_8 : decode cJ15_checkIndex 8 = .ok (.return_, 1) := dk_177 (dk_at dksJ15_checkIndex_0 8 rfl rfl)
abbrev cJ15_length : ByteArray := prog_35_method_6_code
def yJ15_length : MethodName := ⟨RJ15, "length", "([B)I"⟩
def dkwJ15_length_0 : List UInt8 := [42, 190, 4, 122, 172]
abbrev dktJ15_length_0 : List UInt8 := dkwJ15_length_0 ++ []
theorem dksJ15_length_0 : cJ15_length.data.toList.drop 0 = dktJ15_length_0 := by decide +kernel
theorem dJ15_length_0 : decode cJ15_length 0 = .ok (.aload_n 0, 1) := dk_42 (dk_at dksJ15_length_0 0 rfl rfl)
theorem dJ15_length_1 : decode cJ15_length 1 = .ok (.arraylength, 1) := dk_190 (dk_at dksJ15_length_0 1 rfl rfl)
theorem dJ15_length_2 : decode cJ15_length 2 = .ok (.iconst 1, 1) := dk_4 (dk_at dksJ15_length_0 2 rfl rfl)
theorem dJ15_length_3 : decode cJ15_length 3 = .ok (.ishr, 1) := dk_122 (dk_at dksJ15_length_0 3 rfl rfl)
theorem dJ15_length_4 : decode cJ15_length 4 = .ok (.ireturn, 1) := dk_172 (dk_at dksJ15_length_0 4 rfl rfl)
abbrev cJ15_getChar : ByteArray := prog_35_method_5_code
def yJ15_getChar : MethodName := ⟨RJ15, "getChar", "([BI)C"⟩
def dkwJ15_getChar_2 : List UInt8 := [51, 17, 0, 255, 126, 178, 0, 63, 120, 128, 146, 172]
abbrev dktJ15_getChar_2 : List UInt8 := dkwJ15_getChar_2 ++ []
def dkwJ15_getChar_1 : List UInt8 := [183, 0, 56, 191, 27, 4, 120, 60, 42, 27, 132, 1, 1, 51, 17, 0, 255, 126, 178, 0, 59, 120, 42, 27]
abbrev dktJ15_getChar_1 : List UInt8 := dkwJ15_getChar_1 ++ dktJ15_getChar_2
def dkwJ15_getChar_0 : List UInt8 := [178, 0, 44, 154, 0, 25, 27, 155, 0, 11, 27, 42, 184, 0, 48, 161, 0, 13, 187, 0, 52, 89, 18, 54]
abbrev dktJ15_getChar_0 : List UInt8 := dkwJ15_getChar_0 ++ dktJ15_getChar_1
theorem dksJ15_getChar_0 : cJ15_getChar.data.toList.drop 0 = dktJ15_getChar_0 := by decide +kernel
theorem dksJ15_getChar_1 : cJ15_getChar.data.toList.drop 24 = dktJ15_getChar_1 := dk_seg dksJ15_getChar_0 24 rfl rfl
theorem dksJ15_getChar_2 : cJ15_getChar.data.toList.drop 48 = dktJ15_getChar_2 := dk_seg dksJ15_getChar_1 24 rfl rfl
theorem dJ15_getChar_0 : decode cJ15_getChar 0 = .ok (.getstatic 44, 3) := dk_178 0 44 (dk_at dksJ15_getChar_0 0 rfl rfl)
theorem dJ15_getChar_3 : decode cJ15_getChar 3 = .ok (.ifCond .ne 25, 3) := dk_154 0 25 (dk_at dksJ15_getChar_0 3 rfl rfl)
theorem dJ15_getChar_6 : decode cJ15_getChar 6 = .ok (.iload_n 1, 1) := dk_27 (dk_at dksJ15_getChar_0 6 rfl rfl)
theorem dJ15_getChar_7 : decode cJ15_getChar 7 = .ok (.ifCond .lt 11, 3) := dk_155 0 11 (dk_at dksJ15_getChar_0 7 rfl rfl)
theorem dJ15_getChar_10 : decode cJ15_getChar 10 = .ok (.iload_n 1, 1) := dk_27 (dk_at dksJ15_getChar_0 10 rfl rfl)
theorem dJ15_getChar_11 : decode cJ15_getChar 11 = .ok (.aload_n 0, 1) := dk_42 (dk_at dksJ15_getChar_0 11 rfl rfl)
theorem dJ15_getChar_12 : decode cJ15_getChar 12 = .ok (.invokestatic 48, 3) := dk_184 0 48 (dk_at dksJ15_getChar_0 12 rfl rfl)
theorem dJ15_getChar_15 : decode cJ15_getChar 15 = .ok (.if_icmp .lt 13, 3) := dk_161 0 13 (dk_at dksJ15_getChar_0 15 rfl rfl)
theorem dJ15_getChar_18 : decode cJ15_getChar 18 = .ok (.new 52, 3) := dk_187 0 52 (dk_at dksJ15_getChar_0 18 rfl rfl)
theorem dJ15_getChar_21 : decode cJ15_getChar 21 = .ok (.dup, 1) := dk_89 (dk_at dksJ15_getChar_0 21 rfl rfl)
theorem dJ15_getChar_22 : decode cJ15_getChar 22 = .ok (.ldc 54, 2) := dk_18 54 (dk_at dksJ15_getChar_0 22 rfl rfl)
theorem dJ15_getChar_24 : decode cJ15_getChar 24 = .ok (.invokespecial 56, 3) := dk_183 0 56 (dk_at dksJ15_getChar_1 0 rfl rfl)
theorem dJ15_getChar_27 : decode cJ15_getChar 27 = .ok (.athrow, 1) := dk_191 (dk_at dksJ15_getChar_1 3 rfl rfl)
theorem dJ15_getChar_28 : decode cJ15_getChar 28 = .ok (.iload_n 1, 1) := dk_27 (dk_at dksJ15_getChar_1 4 rfl rfl)
theorem dJ15_getChar_29 : decode cJ15_getChar 29 = .ok (.iconst 1, 1) := dk_4 (dk_at dksJ15_getChar_1 5 rfl rfl)
theorem dJ15_getChar_30 : decode cJ15_getChar 30 = .ok (.ishl, 1) := dk_120 (dk_at dksJ15_getChar_1 6 rfl rfl)
theorem dJ15_getChar_31 : decode cJ15_getChar 31 = .ok (.istore_n 1, 1) := dk_60 (dk_at dksJ15_getChar_1 7 rfl rfl)
theorem dJ15_getChar_32 : decode cJ15_getChar 32 = .ok (.aload_n 0, 1) := dk_42 (dk_at dksJ15_getChar_1 8 rfl rfl)
theorem dJ15_getChar_33 : decode cJ15_getChar 33 = .ok (.iload_n 1, 1) := dk_27 (dk_at dksJ15_getChar_1 9 rfl rfl)
theorem dJ15_getChar_34 : decode cJ15_getChar 34 = .ok (.iinc 1 1, 3) := dk_132 1 1 (dk_at dksJ15_getChar_1 10 rfl rfl)
theorem dJ15_getChar_37 : decode cJ15_getChar 37 = .ok (.baload, 1) := dk_51 (dk_at dksJ15_getChar_1 13 rfl rfl)
theorem dJ15_getChar_38 : decode cJ15_getChar 38 = .ok (.sipush 255, 3) := dk_17 0 255 (dk_at dksJ15_getChar_1 14 rfl rfl)
theorem dJ15_getChar_41 : decode cJ15_getChar 41 = .ok (.iand, 1) := dk_126 (dk_at dksJ15_getChar_1 17 rfl rfl)
theorem dJ15_getChar_42 : decode cJ15_getChar 42 = .ok (.getstatic 59, 3) := dk_178 0 59 (dk_at dksJ15_getChar_1 18 rfl rfl)
theorem dJ15_getChar_45 : decode cJ15_getChar 45 = .ok (.ishl, 1) := dk_120 (dk_at dksJ15_getChar_1 21 rfl rfl)
theorem dJ15_getChar_46 : decode cJ15_getChar 46 = .ok (.aload_n 0, 1) := dk_42 (dk_at dksJ15_getChar_1 22 rfl rfl)
theorem dJ15_getChar_47 : decode cJ15_getChar 47 = .ok (.iload_n 1, 1) := dk_27 (dk_at dksJ15_getChar_1 23 rfl rfl)
theorem dJ15_getChar_48 : decode cJ15_getChar 48 = .ok (.baload, 1) := dk_51 (dk_at dksJ15_getChar_2 0 rfl rfl)
theorem dJ15_getChar_49 : decode cJ15_getChar 49 = .ok (.sipush 255, 3) := dk_17 0 255 (dk_at dksJ15_getChar_2 1 rfl rfl)
theorem dJ15_getChar_52 : decode cJ15_getChar 52 = .ok (.iand, 1) := dk_126 (dk_at dksJ15_getChar_2 4 rfl rfl)
theorem dJ15_getChar_53 : decode cJ15_getChar 53 = .ok (.getstatic 63, 3) := dk_178 0 63 (dk_at dksJ15_getChar_2 5 rfl rfl)
theorem dJ15_getChar_56 : decode cJ15_getChar 56 = .ok (.ishl, 1) := dk_120 (dk_at dksJ15_getChar_2 8 rfl rfl)
theorem dJ15_getChar_57 : decode cJ15_getChar 57 = .ok (.ior, 1) := dk_128 (dk_at dksJ15_getChar_2 9 rfl rfl)
theorem dJ15_getChar_58 : decode cJ15_getChar 58 = .ok (.i2c, 1) := dk_146 (dk_at dksJ15_getChar_2 10 rfl rfl)
theorem dJ15_getChar_59 : decode cJ15_getChar 59 = .ok (.ireturn, 1) := dk_172 (dk_at dksJ15_getChar_2 11 rfl rfl)
abbrev cJ15_newBytesFor : ByteArray := prog_35_method_2_code
def yJ15_newBytesFor : MethodName := ⟨RJ15, "newBytesFor", "(I)[B"⟩
def dkwJ15_newBytesFor_0 : List UInt8 := [26, 184, 0, 11, 188, 8, 176]
abbrev dktJ15_newBytesFor_0 : List UInt8 := dkwJ15_newBytesFor_0 ++ []
theorem dksJ15_newBytesFor_0 : cJ15_newBytesFor.data.toList.drop 0 = dktJ15_newBytesFor_0 := by decide +kernel
theorem dJ15_newBytesFor_0 : decode cJ15_newBytesFor 0 = .ok (.iload_n 0, 1) := dk_26 (dk_at dksJ15_newBytesFor_0 0 rfl rfl)
theorem dJ15_newBytesFor_1 : decode cJ15_newBytesFor 1 = .ok (.invokestatic 11, 3) := dk_184 0 11 (dk_at dksJ15_newBytesFor_0 1 rfl rfl)
theorem dJ15_newBytesFor_4 : decode cJ15_newBytesFor 4 = .ok (.newarray .byte, 2) := dk_188_8 (dk_at dksJ15_newBytesFor_0 4 rfl rfl)
theorem dJ15_newBytesFor_6 : decode cJ15_newBytesFor 6 = .ok (.areturn, 1) := dk_176 (dk_at dksJ15_newBytesFor_0 6 rfl rfl)
abbrev cJ15_newBytesLength : ByteArray := prog_35_method_3_code
def yJ15_newBytesLength : MethodName := ⟨RJ15, "newBytesLength", "(I)I"⟩
def dkwJ15_newBytesLength_2 : List UInt8 := [182, 0, 32, 182, 0, 37, 183, 0, 41, 191, 26, 4, 120, 172]
abbrev dktJ15_newBytesLength_2 : List UInt8 := dkwJ15_newBytesLength_2 ++ []
def dkwJ15_newBytesLength_1 : List UInt8 := [187, 0, 23, 89, 183, 0, 25, 18, 26, 182, 0, 28, 26, 182, 0, 32, 18, 35, 182, 0, 28, 18, 20]
abbrev dktJ15_newBytesLength_1 : List UInt8 := dkwJ15_newBytesLength_1 ++ dktJ15_newBytesLength_2
def dkwJ15_newBytesLength_0 : List UInt8 := [26, 156, 0, 11, 187, 0, 17, 89, 183, 0, 19, 191, 26, 18, 20, 161, 0, 40, 187, 0, 21, 89]
abbrev dktJ15_newBytesLength_0 : List UInt8 := dkwJ15_newBytesLength_0 ++ dktJ15_newBytesLength_1
theorem dksJ15_newBytesLength_0 : cJ15_newBytesLength.data.toList.drop 0 = dktJ15_newBytesLength_0 := by decide +kernel
theorem dksJ15_newBytesLength_1 : cJ15_newBytesLength.data.toList.drop 22 = dktJ15_newBytesLength_1 := dk_seg dksJ15_newBytesLength_0 22 rfl rfl
theorem dksJ15_newBytesLength_2 : cJ15_newBytesLength.data.toList.drop 45 = dktJ15_newBytesLength_2 := dk_seg dksJ15_newBytesLength_1 23 rfl rfl
theorem dJ15_newBytesLength_0 : decode cJ15_newBytesLength 0 = .ok (.iload_n 0, 1) := dk_26 (dk_at dksJ15_newBytesLength_0 0 rfl rfl)
theorem dJ15_newBytesLength_1 : decode cJ15_newBytesLength 1 = .ok (.ifCond .ge 11, 3) := dk_156 0 11 (dk_at dksJ15_newBytesLength_0 1 rfl rfl)
theorem dJ15_newBytesLength_4 : decode cJ15_newBytesLength 4 = .ok (.new 17, 3) := dk_187 0 17 (dk_at dksJ15_newBytesLength_0 4 rfl rfl)
theorem dJ15_newBytesLength_7 : decode cJ15_newBytesLength 7 = .ok (.dup, 1) := dk_89 (dk_at dksJ15_newBytesLength_0 7 rfl rfl)
theorem dJ15_newBytesLength_8 : decode cJ15_newBytesLength 8 = .ok (.invokespecial 19, 3) := dk_183 0 19 (dk_at dksJ15_newBytesLength_0 8 rfl rfl)
theorem dJ15_newBytesLength_11 : decode cJ15_newBytesLength 11 = .ok (.athrow, 1) := dk_191 (dk_at dksJ15_newBytesLength_0 11 rfl rfl)
theorem dJ15_newBytesLength_12 : decode cJ15_newBytesLength 12 = .ok (.iload_n 0, 1) := dk_26 (dk_at dksJ15_newBytesLength_0 12 rfl rfl)
theorem dJ15_newBytesLength_13 : decode cJ15_newBytesLength 13 = .ok (.ldc 20, 2) := dk_18 20 (dk_at dksJ15_newBytesLength_0 13 rfl rfl)
theorem dJ15_newBytesLength_15 : decode cJ15_newBytesLength 15 = .ok (.if_icmp .lt 40, 3) := dk_161 0 40 (dk_at dksJ15_newBytesLength_0 15 rfl rfl)
theorem dJ15_newBytesLength_18 : decode cJ15_newBytesLength 18 = .ok (.new 21, 3) := dk_187 0 21 (dk_at dksJ15_newBytesLength_0 18 rfl rfl)
theorem dJ15_newBytesLength_21 : decode cJ15_newBytesLength 21 = .ok (.dup, 1) := dk_89 (dk_at dksJ15_newBytesLength_0 21 rfl rfl)
theorem dJ15_newBytesLength_22 : decode cJ15_newBytesLength 22 = .ok (.new 23, 3) := dk_187 0 23 (dk_at dksJ15_newBytesLength_1 0 rfl rfl)
theorem dJ15_newBytesLength_25 : decode cJ15_newBytesLength 25 = .ok (.dup, 1) := dk_89 (dk_at dksJ15_newBytesLength_1 3 rfl rfl)
theorem dJ15_newBytesLength_26 : decode cJ15_newBytesLength 26 = .ok (.invokespecial 25, 3) := dk_183 0 25 (dk_at dksJ15_newBytesLength_1 4 rfl rfl)
theorem dJ15_newBytesLength_29 : decode cJ15_newBytesLength 29 = .ok (.ldc 26, 2) := dk_18 26 (dk_at dksJ15_newBytesLength_1 7 rfl rfl)
theorem dJ15_newBytesLength_31 : decode cJ15_newBytesLength 31 = .ok (.invokevirtual 28, 3) := dk_182 0 28 (dk_at dksJ15_newBytesLength_1 9 rfl rfl)
theorem dJ15_newBytesLength_34 : decode cJ15_newBytesLength 34 = .ok (.iload_n 0, 1) := dk_26 (dk_at dksJ15_newBytesLength_1 12 rfl rfl)
theorem dJ15_newBytesLength_35 : decode cJ15_newBytesLength 35 = .ok (.invokevirtual 32, 3) := dk_182 0 32 (dk_at dksJ15_newBytesLength_1 13 rfl rfl)
theorem dJ15_newBytesLength_38 : decode cJ15_newBytesLength 38 = .ok (.ldc 35, 2) := dk_18 35 (dk_at dksJ15_newBytesLength_1 16 rfl rfl)
theorem dJ15_newBytesLength_40 : decode cJ15_newBytesLength 40 = .ok (.invokevirtual 28, 3) := dk_182 0 28 (dk_at dksJ15_newBytesLength_1 18 rfl rfl)
theorem dJ15_newBytesLength_43 : decode cJ15_newBytesLength 43 = .ok (.ldc 20, 2) := dk_18 20 (dk_at dksJ15_newBytesLength_1 21 rfl rfl)
theorem dJ15_newBytesLength_45 : decode cJ15_newBytesLength 45 = .ok (.invokevirtual 32, 3) := dk_182 0 32 (dk_at dksJ15_newBytesLength_2 0 rfl rfl)
theorem dJ15_newBytesLength_48 : decode cJ15_newBytesLength 48 = .ok (.invokevirtual 37, 3) := dk_182 0 37 (dk_at dksJ15_newBytesLength_2 3 rfl rfl)
theorem dJ15_newBytesLength_51 : decode cJ15_newBytesLength 51 = .ok (.invokespecial 41, 3) := dk_183 0 41 (dk_at dksJ15_newBytesLength_2 6 rfl rfl)
theorem dJ15_newBytesLength_54 : decode cJ15_newBytesLength 54 = .ok (.athrow, 1) := dk_191 (dk_at dksJ15_newBytesLength_2 9 rfl rfl)
theorem dJ15_newBytesLength_55 : decode cJ15_newBytesLength 55 = .ok (.iload_n 0, 1) := dk_26 (dk_at dksJ15_newBytesLength_2 10 rfl rfl)
theorem dJ15_newBytesLength_56 : decode cJ15_newBytesLength 56 = .ok (.iconst 1, 1) := dk_4 (dk_at dksJ15_newBytesLength_2 11 rfl rfl)
theorem dJ15_newBytesLength_57 : decode cJ15_newBytesLength 57 = .ok (.ishl, 1) := dk_120 (dk_at dksJ15_newBytesLength_2 12 rfl rfl)
theorem dJ15_newBytesLength_58 : decode cJ15_newBytesLength 58 = .ok (.ireturn, 1) := dk_172 (dk_at dksJ15_newBytesLength_2 13 rfl rfl)
abbrev cJ15_inflate : ByteArray := prog_35_method_86_code
def yJ15_inflate : MethodName := ⟨RJ15, "inflate", "([BI[BII)V"⟩
def dkwJ15_inflate_1 : List UInt8 := [132, 1, 1, 51, 17, 0, 255, 126, 184, 0, 111, 132, 5, 1, 167, 255, 228, 177]
abbrev dktJ15_inflate_1 : List UInt8 := dkwJ15_inflate_1 ++ []
def dkwJ15_inflate_0 : List UInt8 := [29, 21, 4, 44, 184, 0, 173, 3, 54, 5, 21, 5, 21, 4, 162, 0, 27, 44, 29, 132, 3, 1, 42, 27]
abbrev dktJ15_inflate_0 : List UInt8 := dkwJ15_inflate_0 ++ dktJ15_inflate_1
theorem dksJ15_inflate_0 : cJ15_inflate.data.toList.drop 0 = dktJ15_inflate_0 := by decide +kernel
theorem dksJ15_inflate_1 : cJ15_inflate.data.toList.drop 24 = dktJ15_inflate_1 := dk_seg dksJ15_inflate_0 24 rfl rfl
theorem dJ15_inflate_0 : decode cJ15_inflate 0 = .ok (.iload_n 3, 1) := dk_29 (dk_at dksJ15_inflate_0 0 rfl rfl)
theorem dJ15_inflate_1 : decode cJ15_inflate 1 = .ok (.iload 4, 2) := dk_21 4 (dk_at dksJ15_inflate_0 1 rfl rfl)
theorem dJ15_inflate_3 : decode cJ15_inflate 3 = .ok (.aload_n 2, 1) := dk_44 (dk_at dksJ15_inflate_0 3 rfl rfl)
theorem dJ15_inflate_4 : decode cJ15_inflate 4 = .ok (.invokestatic 173, 3) := dk_184 0 173 (dk_at dksJ15_inflate_0 4 rfl rfl)
theorem dJ15_inflate_7 : decode cJ15_inflate 7 = .ok (.iconst 0, 1) := dk_3 (dk_at dksJ15_inflate_0 7 rfl rfl)
theorem dJ15_inflate_8 : decode cJ15_inflate 8 = .ok (.istore 5, 2) := dk_54 5 (dk_at dksJ15_inflate_0 8 rfl rfl)
theorem dJ15_inflate_10 : decode cJ15_inflate 10 = .ok (.iload 5, 2) := dk_21 5 (dk_at dksJ15_inflate_0 10 rfl rfl)
theorem dJ15_inflate_12 : decode cJ15_inflate 12 = .ok (.iload 4, 2) := dk_21 4 (dk_at dksJ15_inflate_0 12 rfl rfl)
theorem dJ15_inflate_14 : decode cJ15_inflate 14 = .ok (.if_icmp .ge 27, 3) := dk_162 0 27 (dk_at dksJ15_inflate_0 14 rfl rfl)
theorem dJ15_inflate_17 : decode cJ15_inflate 17 = .ok (.aload_n 2, 1) := dk_44 (dk_at dksJ15_inflate_0 17 rfl rfl)
theorem dJ15_inflate_18 : decode cJ15_inflate 18 = .ok (.iload_n 3, 1) := dk_29 (dk_at dksJ15_inflate_0 18 rfl rfl)
theorem dJ15_inflate_19 : decode cJ15_inflate 19 = .ok (.iinc 3 1, 3) := dk_132 3 1 (dk_at dksJ15_inflate_0 19 rfl rfl)
theorem dJ15_inflate_22 : decode cJ15_inflate 22 = .ok (.aload_n 0, 1) := dk_42 (dk_at dksJ15_inflate_0 22 rfl rfl)
theorem dJ15_inflate_23 : decode cJ15_inflate 23 = .ok (.iload_n 1, 1) := dk_27 (dk_at dksJ15_inflate_0 23 rfl rfl)
theorem dJ15_inflate_24 : decode cJ15_inflate 24 = .ok (.iinc 1 1, 3) := dk_132 1 1 (dk_at dksJ15_inflate_1 0 rfl rfl)
theorem dJ15_inflate_27 : decode cJ15_inflate 27 = .ok (.baload, 1) := dk_51 (dk_at dksJ15_inflate_1 3 rfl rfl)
theorem dJ15_inflate_28 : decode cJ15_inflate 28 = .ok (.sipush 255, 3) := dk_17 0 255 (dk_at dksJ15_inflate_1 4 rfl rfl)
theorem dJ15_inflate_31 : decode cJ15_inflate 31 = .ok (.iand, 1) := dk_126 (dk_at dksJ15_inflate_1 7 rfl rfl)
theorem dJ15_inflate_32 : decode cJ15_inflate 32 = .ok (.invokestatic 111, 3) := dk_184 0 111 (dk_at dksJ15_inflate_1 8 rfl rfl)
theorem dJ15_inflate_35 : decode cJ15_inflate 35 = .ok (.iinc 5 1, 3) := dk_132 5 1 (dk_at dksJ15_inflate_1 11 rfl rfl)
theorem dJ15_inflate_38 : decode cJ15_inflate 38 = .ok (.goto (-28), 3) := dk_167 255 228 (dk_at dksJ15_inflate_1 14 rfl rfl)
theorem dJ15_inflate_41 : decode cJ15_inflate 41 = .ok (.return_, 1) := dk_177 (dk_at dksJ15_inflate_1 17 rfl rfl)
abbrev cJ15_checkBoundsOffCount : ByteArray := prog_35_method_94_code
def yJ15_checkBoundsOffCount : MethodName := ⟨RJ15, "checkBoundsOffCount", "(II[B)V"⟩
def dkwJ15_checkBoundsOffCount_0 : List UInt8 := [26, 27, 44, 184, 0, 48, 184, 1, 163, 87, 177]
abbrev dktJ15_checkBoundsOffCount_0 : List UInt8 := dkwJ15_checkBoundsOffCount_0 ++ []
theorem dksJ15_checkBoundsOffCount_0 : cJ15_checkBoundsOffCount.data.toList.drop 0 = dktJ15_checkBoundsOffCount_0 := by decide +kernel
theorem dJ15_checkBoundsOffCount_0 : decode cJ15_checkBoundsOffCount 0 = .ok (.iload_n 0, 1) := dk_26 (dk_at dksJ15_checkBoundsOffCount_0 0 rfl rfl)
theorem dJ15_checkBoundsOffCount_1 : decode cJ15_checkBoundsOffCount 1 = .ok (.iload_n 1, 1) := dk_27 (dk_at dksJ15_checkBoundsOffCount_0 1 rfl rfl)
theorem dJ15_checkBoundsOffCount_2 : decode cJ15_checkBoundsOffCount 2 = .ok (.aload_n 2, 1) := dk_44 (dk_at dksJ15_checkBoundsOffCount_0 2 rfl rfl)
theorem dJ15_checkBoundsOffCount_3 : decode cJ15_checkBoundsOffCount 3 = .ok (.invokestatic 48, 3) := dk_184 0 48 (dk_at dksJ15_checkBoundsOffCount_0 3 rfl rfl)
theorem dJ15_checkBoundsOffCount_6 : decode cJ15_checkBoundsOffCount 6 = .ok (.invokestatic 419, 3) := dk_184 1 163 (dk_at dksJ15_checkBoundsOffCount_0 6 rfl rfl)
theorem dJ15_checkBoundsOffCount_9 : decode cJ15_checkBoundsOffCount 9 = .ok (.pop, 1) := dk_87 (dk_at dksJ15_checkBoundsOffCount_0 9 rfl rfl)
theorem dJ15_checkBoundsOffCount_10 : decode cJ15_checkBoundsOffCount 10 = .ok (.return_, 1) := dk_177 (dk_at dksJ15_checkBoundsOffCount_0 10 rfl rfl)
abbrev cJ15_putChar : ByteArray := prog_35_method_4_code
def yJ15_putChar : MethodName := ⟨RJ15, "putChar", "([BII)V"⟩
def dkwJ15_putChar_2 : List UInt8 := [178, 0, 63, 122, 145, 84, 177]
abbrev dktJ15_putChar_2 : List UInt8 := dkwJ15_putChar_2 ++ []
def dkwJ15_putChar_1 : List UInt8 := [183, 0, 56, 191, 27, 4, 120, 60, 42, 27, 132, 1, 1, 28, 178, 0, 59, 122, 145, 84, 42, 27, 28]
abbrev dktJ15_putChar_1 : List UInt8 := dkwJ15_putChar_1 ++ dktJ15_putChar_2
def dkwJ15_putChar_0 : List UInt8 := [178, 0, 44, 154, 0, 25, 27, 155, 0, 11, 27, 42, 184, 0, 48, 161, 0, 13, 187, 0, 52, 89, 18, 54]
abbrev dktJ15_putChar_0 : List UInt8 := dkwJ15_putChar_0 ++ dktJ15_putChar_1
theorem dksJ15_putChar_0 : cJ15_putChar.data.toList.drop 0 = dktJ15_putChar_0 := by decide +kernel
theorem dksJ15_putChar_1 : cJ15_putChar.data.toList.drop 24 = dktJ15_putChar_1 := dk_seg dksJ15_putChar_0 24 rfl rfl
theorem dksJ15_putChar_2 : cJ15_putChar.data.toList.drop 47 = dktJ15_putChar_2 := dk_seg dksJ15_putChar_1 23 rfl rfl
theorem dJ15_putChar_0 : decode cJ15_putChar 0 = .ok (.getstatic 44, 3) := dk_178 0 44 (dk_at dksJ15_putChar_0 0 rfl rfl)
theorem dJ15_putChar_3 : decode cJ15_putChar 3 = .ok (.ifCond .ne 25, 3) := dk_154 0 25 (dk_at dksJ15_putChar_0 3 rfl rfl)
theorem dJ15_putChar_6 : decode cJ15_putChar 6 = .ok (.iload_n 1, 1) := dk_27 (dk_at dksJ15_putChar_0 6 rfl rfl)
theorem dJ15_putChar_7 : decode cJ15_putChar 7 = .ok (.ifCond .lt 11, 3) := dk_155 0 11 (dk_at dksJ15_putChar_0 7 rfl rfl)
theorem dJ15_putChar_10 : decode cJ15_putChar 10 = .ok (.iload_n 1, 1) := dk_27 (dk_at dksJ15_putChar_0 10 rfl rfl)
theorem dJ15_putChar_11 : decode cJ15_putChar 11 = .ok (.aload_n 0, 1) := dk_42 (dk_at dksJ15_putChar_0 11 rfl rfl)
theorem dJ15_putChar_12 : decode cJ15_putChar 12 = .ok (.invokestatic 48, 3) := dk_184 0 48 (dk_at dksJ15_putChar_0 12 rfl rfl)
theorem dJ15_putChar_15 : decode cJ15_putChar 15 = .ok (.if_icmp .lt 13, 3) := dk_161 0 13 (dk_at dksJ15_putChar_0 15 rfl rfl)
theorem dJ15_putChar_18 : decode cJ15_putChar 18 = .ok (.new 52, 3) := dk_187 0 52 (dk_at dksJ15_putChar_0 18 rfl rfl)
theorem dJ15_putChar_21 : decode cJ15_putChar 21 = .ok (.dup, 1) := dk_89 (dk_at dksJ15_putChar_0 21 rfl rfl)
theorem dJ15_putChar_22 : decode cJ15_putChar 22 = .ok (.ldc 54, 2) := dk_18 54 (dk_at dksJ15_putChar_0 22 rfl rfl)
theorem dJ15_putChar_24 : decode cJ15_putChar 24 = .ok (.invokespecial 56, 3) := dk_183 0 56 (dk_at dksJ15_putChar_1 0 rfl rfl)
theorem dJ15_putChar_27 : decode cJ15_putChar 27 = .ok (.athrow, 1) := dk_191 (dk_at dksJ15_putChar_1 3 rfl rfl)
theorem dJ15_putChar_28 : decode cJ15_putChar 28 = .ok (.iload_n 1, 1) := dk_27 (dk_at dksJ15_putChar_1 4 rfl rfl)
theorem dJ15_putChar_29 : decode cJ15_putChar 29 = .ok (.iconst 1, 1) := dk_4 (dk_at dksJ15_putChar_1 5 rfl rfl)
theorem dJ15_putChar_30 : decode cJ15_putChar 30 = .ok (.ishl, 1) := dk_120 (dk_at dksJ15_putChar_1 6 rfl rfl)
theorem dJ15_putChar_31 : decode cJ15_putChar 31 = .ok (.istore_n 1, 1) := dk_60 (dk_at dksJ15_putChar_1 7 rfl rfl)
theorem dJ15_putChar_32 : decode cJ15_putChar 32 = .ok (.aload_n 0, 1) := dk_42 (dk_at dksJ15_putChar_1 8 rfl rfl)
theorem dJ15_putChar_33 : decode cJ15_putChar 33 = .ok (.iload_n 1, 1) := dk_27 (dk_at dksJ15_putChar_1 9 rfl rfl)
theorem dJ15_putChar_34 : decode cJ15_putChar 34 = .ok (.iinc 1 1, 3) := dk_132 1 1 (dk_at dksJ15_putChar_1 10 rfl rfl)
theorem dJ15_putChar_37 : decode cJ15_putChar 37 = .ok (.iload_n 2, 1) := dk_28 (dk_at dksJ15_putChar_1 13 rfl rfl)
theorem dJ15_putChar_38 : decode cJ15_putChar 38 = .ok (.getstatic 59, 3) := dk_178 0 59 (dk_at dksJ15_putChar_1 14 rfl rfl)
theorem dJ15_putChar_41 : decode cJ15_putChar 41 = .ok (.ishr, 1) := dk_122 (dk_at dksJ15_putChar_1 17 rfl rfl)
theorem dJ15_putChar_42 : decode cJ15_putChar 42 = .ok (.i2b, 1) := dk_145 (dk_at dksJ15_putChar_1 18 rfl rfl)
theorem dJ15_putChar_43 : decode cJ15_putChar 43 = .ok (.bastore, 1) := dk_84 (dk_at dksJ15_putChar_1 19 rfl rfl)
theorem dJ15_putChar_44 : decode cJ15_putChar 44 = .ok (.aload_n 0, 1) := dk_42 (dk_at dksJ15_putChar_1 20 rfl rfl)
theorem dJ15_putChar_45 : decode cJ15_putChar 45 = .ok (.iload_n 1, 1) := dk_27 (dk_at dksJ15_putChar_1 21 rfl rfl)
theorem dJ15_putChar_46 : decode cJ15_putChar 46 = .ok (.iload_n 2, 1) := dk_28 (dk_at dksJ15_putChar_1 22 rfl rfl)
theorem dJ15_putChar_47 : decode cJ15_putChar 47 = .ok (.getstatic 63, 3) := dk_178 0 63 (dk_at dksJ15_putChar_2 0 rfl rfl)
theorem dJ15_putChar_50 : decode cJ15_putChar 50 = .ok (.ishr, 1) := dk_122 (dk_at dksJ15_putChar_2 3 rfl rfl)
theorem dJ15_putChar_51 : decode cJ15_putChar 51 = .ok (.i2b, 1) := dk_145 (dk_at dksJ15_putChar_2 4 rfl rfl)
theorem dJ15_putChar_52 : decode cJ15_putChar 52 = .ok (.bastore, 1) := dk_84 (dk_at dksJ15_putChar_2 5 rfl rfl)
theorem dJ15_putChar_53 : decode cJ15_putChar 53 = .ok (.return_, 1) := dk_177 (dk_at dksJ15_putChar_2 6 rfl rfl)
abbrev cJ15_putCharSB : ByteArray := prog_35_method_71_code
def yJ15_putCharSB : MethodName := ⟨RJ15, "putCharSB", "([BII)V"⟩
def dkwJ15_putCharSB_0 : List UInt8 := [27, 42, 184, 0, 67, 42, 27, 28, 184, 0, 111, 177]
abbrev dktJ15_putCharSB_0 : List UInt8 := dkwJ15_putCharSB_0 ++ []
theorem dksJ15_putCharSB_0 : cJ15_putCharSB.data.toList.drop 0 = dktJ15_putCharSB_0 := by decide +kernel
theorem dJ15_putCharSB_0 : decode cJ15_putCharSB 0 = .ok (.iload_n 1, 1) := dk_27 (dk_at dksJ15_putCharSB_0 0 rfl rfl)
theorem dJ15_putCharSB_1 : decode cJ15_putCharSB 1 = .ok (.aload_n 0, 1) := dk_42 (dk_at dksJ15_putCharSB_0 1 rfl rfl)
theorem dJ15_putCharSB_2 : decode cJ15_putCharSB 2 = .ok (.invokestatic 67, 3) := dk_184 0 67 (dk_at dksJ15_putCharSB_0 2 rfl rfl)
theorem dJ15_putCharSB_5 : decode cJ15_putCharSB 5 = .ok (.aload_n 0, 1) := dk_42 (dk_at dksJ15_putCharSB_0 5 rfl rfl)
theorem dJ15_putCharSB_6 : decode cJ15_putCharSB 6 = .ok (.iload_n 1, 1) := dk_27 (dk_at dksJ15_putCharSB_0 6 rfl rfl)
theorem dJ15_putCharSB_7 : decode cJ15_putCharSB 7 = .ok (.iload_n 2, 1) := dk_28 (dk_at dksJ15_putCharSB_0 7 rfl rfl)
theorem dJ15_putCharSB_8 : decode cJ15_putCharSB 8 = .ok (.invokestatic 111, 3) := dk_184 0 111 (dk_at dksJ15_putCharSB_0 8 rfl rfl)
theorem dJ15_putCharSB_11 : decode cJ15_putCharSB 11 = .ok (.return_, 1) := dk_177 (dk_at dksJ15_putCharSB_0 11 rfl rfl)
abbrev cJ15_getChars : ByteArray := prog_35_method_77_code
def yJ15_getChars : MethodName := ⟨RJ15, "getChars", "(III[B)I"⟩
def dkwJ15_getChars_1 : List UInt8 := [159, 0, 11, 187, 0, 52, 89, 183, 0, 66, 191, 21, 4, 172]
abbrev dktJ15_getChars_1 : List UInt8 := dkwJ15_getChars_1 ++ []
def dkwJ15_getChars_0 : List UInt8 := [27, 28, 45, 184, 0, 96, 26, 28, 45, 184, 1, 137, 54, 4, 178, 0, 44, 154, 0, 17, 27, 21, 4]
abbrev dktJ15_getChars_0 : List UInt8 := dkwJ15_getChars_0 ++ dktJ15_getChars_1
theorem dksJ15_getChars_0 : cJ15_getChars.data.toList.drop 0 = dktJ15_getChars_0 := by decide +kernel
theorem dksJ15_getChars_1 : cJ15_getChars.data.toList.drop 23 = dktJ15_getChars_1 := dk_seg dksJ15_getChars_0 23 rfl rfl
theorem dJ15_getChars_0 : decode cJ15_getChars 0 = .ok (.iload_n 1, 1) := dk_27 (dk_at dksJ15_getChars_0 0 rfl rfl)
theorem dJ15_getChars_1 : decode cJ15_getChars 1 = .ok (.iload_n 2, 1) := dk_28 (dk_at dksJ15_getChars_0 1 rfl rfl)
theorem dJ15_getChars_2 : decode cJ15_getChars 2 = .ok (.aload_n 3, 1) := dk_45 (dk_at dksJ15_getChars_0 2 rfl rfl)
theorem dJ15_getChars_3 : decode cJ15_getChars 3 = .ok (.invokestatic 96, 3) := dk_184 0 96 (dk_at dksJ15_getChars_0 3 rfl rfl)
theorem dJ15_getChars_6 : decode cJ15_getChars 6 = .ok (.iload_n 0, 1) := dk_26 (dk_at dksJ15_getChars_0 6 rfl rfl)
theorem dJ15_getChars_7 : decode cJ15_getChars 7 = .ok (.iload_n 2, 1) := dk_28 (dk_at dksJ15_getChars_0 7 rfl rfl)
theorem dJ15_getChars_8 : decode cJ15_getChars 8 = .ok (.aload_n 3, 1) := dk_45 (dk_at dksJ15_getChars_0 8 rfl rfl)
theorem dJ15_getChars_9 : decode cJ15_getChars 9 = .ok (.invokestatic 393, 3) := dk_184 1 137 (dk_at dksJ15_getChars_0 9 rfl rfl)
theorem dJ15_getChars_12 : decode cJ15_getChars 12 = .ok (.istore 4, 2) := dk_54 4 (dk_at dksJ15_getChars_0 12 rfl rfl)
theorem dJ15_getChars_14 : decode cJ15_getChars 14 = .ok (.getstatic 44, 3) := dk_178 0 44 (dk_at dksJ15_getChars_0 14 rfl rfl)
theorem dJ15_getChars_17 : decode cJ15_getChars 17 = .ok (.ifCond .ne 17, 3) := dk_154 0 17 (dk_at dksJ15_getChars_0 17 rfl rfl)
theorem dJ15_getChars_20 : decode cJ15_getChars 20 = .ok (.iload_n 1, 1) := dk_27 (dk_at dksJ15_getChars_0 20 rfl rfl)
theorem dJ15_getChars_21 : decode cJ15_getChars 21 = .ok (.iload 4, 2) := dk_21 4 (dk_at dksJ15_getChars_0 21 rfl rfl)
theorem dJ15_getChars_23 : decode cJ15_getChars 23 = .ok (.if_icmp .eq 11, 3) := dk_159 0 11 (dk_at dksJ15_getChars_1 0 rfl rfl)
theorem dJ15_getChars_26 : decode cJ15_getChars 26 = .ok (.new 52, 3) := dk_187 0 52 (dk_at dksJ15_getChars_1 3 rfl rfl)
theorem dJ15_getChars_29 : decode cJ15_getChars 29 = .ok (.dup, 1) := dk_89 (dk_at dksJ15_getChars_1 6 rfl rfl)
theorem dJ15_getChars_30 : decode cJ15_getChars 30 = .ok (.invokespecial 66, 3) := dk_183 0 66 (dk_at dksJ15_getChars_1 7 rfl rfl)
theorem dJ15_getChars_33 : decode cJ15_getChars 33 = .ok (.athrow, 1) := dk_191 (dk_at dksJ15_getChars_1 10 rfl rfl)
theorem dJ15_getChars_34 : decode cJ15_getChars 34 = .ok (.iload 4, 2) := dk_21 4 (dk_at dksJ15_getChars_1 11 rfl rfl)
theorem dJ15_getChars_36 : decode cJ15_getChars 36 = .ok (.ireturn, 1) := dk_172 (dk_at dksJ15_getChars_1 13 rfl rfl)
abbrev cJ15_checkBoundsBeginEnd : ByteArray := prog_35_method_93_code
def yJ15_checkBoundsBeginEnd : MethodName := ⟨RJ15, "checkBoundsBeginEnd", "(II[B)V"⟩
def dkwJ15_checkBoundsBeginEnd_0 : List UInt8 := [26, 27, 44, 184, 0, 48, 184, 0, 241, 177]
abbrev dktJ15_checkBoundsBeginEnd_0 : List UInt8 := dkwJ15_checkBoundsBeginEnd_0 ++ []
theorem dksJ15_checkBoundsBeginEnd_0 : cJ15_checkBoundsBeginEnd.data.toList.drop 0 = dktJ15_checkBoundsBeginEnd_0 := by decide +kernel
theorem dJ15_checkBoundsBeginEnd_0 : decode cJ15_checkBoundsBeginEnd 0 = .ok (.iload_n 0, 1) := dk_26 (dk_at dksJ15_checkBoundsBeginEnd_0 0 rfl rfl)
theorem dJ15_checkBoundsBeginEnd_1 : decode cJ15_checkBoundsBeginEnd 1 = .ok (.iload_n 1, 1) := dk_27 (dk_at dksJ15_checkBoundsBeginEnd_0 1 rfl rfl)
theorem dJ15_checkBoundsBeginEnd_2 : decode cJ15_checkBoundsBeginEnd 2 = .ok (.aload_n 2, 1) := dk_44 (dk_at dksJ15_checkBoundsBeginEnd_0 2 rfl rfl)
theorem dJ15_checkBoundsBeginEnd_3 : decode cJ15_checkBoundsBeginEnd 3 = .ok (.invokestatic 48, 3) := dk_184 0 48 (dk_at dksJ15_checkBoundsBeginEnd_0 3 rfl rfl)
theorem dJ15_checkBoundsBeginEnd_6 : decode cJ15_checkBoundsBeginEnd 6 = .ok (.invokestatic 241, 3) := dk_184 0 241 (dk_at dksJ15_checkBoundsBeginEnd_0 6 rfl rfl)
theorem dJ15_checkBoundsBeginEnd_9 : decode cJ15_checkBoundsBeginEnd 9 = .ok (.return_, 1) := dk_177 (dk_at dksJ15_checkBoundsBeginEnd_0 9 rfl rfl)
abbrev cJ15_getChars_2 : ByteArray := prog_35_method_89_code
def yJ15_getChars_2 : MethodName := ⟨RJ15, "getChars", "(II[B)I"⟩
def dkwJ15_getChars_2_5 : List UInt8 := [132, 5, 255, 21, 5, 16, 45, 184, 0, 111, 21, 5, 172]
abbrev dktJ15_getChars_2_5 : List UInt8 := dkwJ15_getChars_2_5 ++ []
def dkwJ15_getChars_2_4 : List UInt8 := [162, 0, 18, 44, 132, 5, 255, 21, 5, 178, 1, 151, 26, 116, 51, 184, 0, 111, 21, 6, 153, 0, 14, 44]
abbrev dktJ15_getChars_2_4 : List UInt8 := dkwJ15_getChars_2_4 ++ dktJ15_getChars_2_5
def dkwJ15_getChars_2_3 : List UInt8 := [184, 0, 111, 167, 255, 205, 44, 132, 5, 255, 21, 5, 178, 1, 147, 26, 116, 51, 184, 0, 111, 26, 16, 247]
abbrev dktJ15_getChars_2_3 : List UInt8 := dkwJ15_getChars_2_3 ++ dktJ15_getChars_2_4
def dkwJ15_getChars_2_2 : List UInt8 := [21, 5, 178, 1, 147, 21, 4, 51, 184, 0, 111, 44, 132, 5, 255, 21, 5, 178, 1, 151, 21, 4, 51]
abbrev dktJ15_getChars_2_2 : List UInt8 := dkwJ15_getChars_2_2 ++ dktJ15_getChars_2_3
def dkwJ15_getChars_2_1 : List UInt8 := [16, 156, 163, 0, 51, 26, 16, 100, 108, 62, 29, 16, 100, 104, 26, 100, 54, 4, 29, 59, 44, 132, 5, 255]
abbrev dktJ15_getChars_2_1 : List UInt8 := dkwJ15_getChars_2_1 ++ dktJ15_getChars_2_2
def dkwJ15_getChars_2_0 : List UInt8 := [27, 54, 5, 26, 156, 0, 7, 4, 167, 0, 4, 3, 54, 6, 21, 6, 154, 0, 6, 26, 116, 59, 26]
abbrev dktJ15_getChars_2_0 : List UInt8 := dkwJ15_getChars_2_0 ++ dktJ15_getChars_2_1
theorem dksJ15_getChars_2_0 : cJ15_getChars_2.data.toList.drop 0 = dktJ15_getChars_2_0 := by decide +kernel
theorem dksJ15_getChars_2_1 : cJ15_getChars_2.data.toList.drop 23 = dktJ15_getChars_2_1 := dk_seg dksJ15_getChars_2_0 23 rfl rfl
theorem dksJ15_getChars_2_2 : cJ15_getChars_2.data.toList.drop 47 = dktJ15_getChars_2_2 := dk_seg dksJ15_getChars_2_1 24 rfl rfl
theorem dksJ15_getChars_2_3 : cJ15_getChars_2.data.toList.drop 70 = dktJ15_getChars_2_3 := dk_seg dksJ15_getChars_2_2 23 rfl rfl
theorem dksJ15_getChars_2_4 : cJ15_getChars_2.data.toList.drop 94 = dktJ15_getChars_2_4 := dk_seg dksJ15_getChars_2_3 24 rfl rfl
theorem dksJ15_getChars_2_5 : cJ15_getChars_2.data.toList.drop 118 = dktJ15_getChars_2_5 := dk_seg dksJ15_getChars_2_4 24 rfl rfl
theorem dJ15_getChars_2_0 : decode cJ15_getChars_2 0 = .ok (.iload_n 1, 1) := dk_27 (dk_at dksJ15_getChars_2_0 0 rfl rfl)
theorem dJ15_getChars_2_1 : decode cJ15_getChars_2 1 = .ok (.istore 5, 2) := dk_54 5 (dk_at dksJ15_getChars_2_0 1 rfl rfl)
theorem dJ15_getChars_2_3 : decode cJ15_getChars_2 3 = .ok (.iload_n 0, 1) := dk_26 (dk_at dksJ15_getChars_2_0 3 rfl rfl)
theorem dJ15_getChars_2_4 : decode cJ15_getChars_2 4 = .ok (.ifCond .ge 7, 3) := dk_156 0 7 (dk_at dksJ15_getChars_2_0 4 rfl rfl)
theorem dJ15_getChars_2_7 : decode cJ15_getChars_2 7 = .ok (.iconst 1, 1) := dk_4 (dk_at dksJ15_getChars_2_0 7 rfl rfl)
theorem dJ15_getChars_2_8 : decode cJ15_getChars_2 8 = .ok (.goto 4, 3) := dk_167 0 4 (dk_at dksJ15_getChars_2_0 8 rfl rfl)
theorem dJ15_getChars_2_11 : decode cJ15_getChars_2 11 = .ok (.iconst 0, 1) := dk_3 (dk_at dksJ15_getChars_2_0 11 rfl rfl)
theorem dJ15_getChars_2_12 : decode cJ15_getChars_2 12 = .ok (.istore 6, 2) := dk_54 6 (dk_at dksJ15_getChars_2_0 12 rfl rfl)
theorem dJ15_getChars_2_14 : decode cJ15_getChars_2 14 = .ok (.iload 6, 2) := dk_21 6 (dk_at dksJ15_getChars_2_0 14 rfl rfl)
theorem dJ15_getChars_2_16 : decode cJ15_getChars_2 16 = .ok (.ifCond .ne 6, 3) := dk_154 0 6 (dk_at dksJ15_getChars_2_0 16 rfl rfl)
theorem dJ15_getChars_2_19 : decode cJ15_getChars_2 19 = .ok (.iload_n 0, 1) := dk_26 (dk_at dksJ15_getChars_2_0 19 rfl rfl)
theorem dJ15_getChars_2_20 : decode cJ15_getChars_2 20 = .ok (.ineg, 1) := dk_116 (dk_at dksJ15_getChars_2_0 20 rfl rfl)
theorem dJ15_getChars_2_21 : decode cJ15_getChars_2 21 = .ok (.istore_n 0, 1) := dk_59 (dk_at dksJ15_getChars_2_0 21 rfl rfl)
theorem dJ15_getChars_2_22 : decode cJ15_getChars_2 22 = .ok (.iload_n 0, 1) := dk_26 (dk_at dksJ15_getChars_2_0 22 rfl rfl)
theorem dJ15_getChars_2_23 : decode cJ15_getChars_2 23 = .ok (.bipush (-100), 2) := dk_16 156 (dk_at dksJ15_getChars_2_1 0 rfl rfl)
theorem dJ15_getChars_2_25 : decode cJ15_getChars_2 25 = .ok (.if_icmp .gt 51, 3) := dk_163 0 51 (dk_at dksJ15_getChars_2_1 2 rfl rfl)
theorem dJ15_getChars_2_28 : decode cJ15_getChars_2 28 = .ok (.iload_n 0, 1) := dk_26 (dk_at dksJ15_getChars_2_1 5 rfl rfl)
theorem dJ15_getChars_2_29 : decode cJ15_getChars_2 29 = .ok (.bipush 100, 2) := dk_16 100 (dk_at dksJ15_getChars_2_1 6 rfl rfl)
theorem dJ15_getChars_2_31 : decode cJ15_getChars_2 31 = .ok (.idiv, 1) := dk_108 (dk_at dksJ15_getChars_2_1 8 rfl rfl)
theorem dJ15_getChars_2_32 : decode cJ15_getChars_2 32 = .ok (.istore_n 3, 1) := dk_62 (dk_at dksJ15_getChars_2_1 9 rfl rfl)
theorem dJ15_getChars_2_33 : decode cJ15_getChars_2 33 = .ok (.iload_n 3, 1) := dk_29 (dk_at dksJ15_getChars_2_1 10 rfl rfl)
theorem dJ15_getChars_2_34 : decode cJ15_getChars_2 34 = .ok (.bipush 100, 2) := dk_16 100 (dk_at dksJ15_getChars_2_1 11 rfl rfl)
theorem dJ15_getChars_2_36 : decode cJ15_getChars_2 36 = .ok (.imul, 1) := dk_104 (dk_at dksJ15_getChars_2_1 13 rfl rfl)
theorem dJ15_getChars_2_37 : decode cJ15_getChars_2 37 = .ok (.iload_n 0, 1) := dk_26 (dk_at dksJ15_getChars_2_1 14 rfl rfl)
theorem dJ15_getChars_2_38 : decode cJ15_getChars_2 38 = .ok (.isub, 1) := dk_100 (dk_at dksJ15_getChars_2_1 15 rfl rfl)
theorem dJ15_getChars_2_39 : decode cJ15_getChars_2 39 = .ok (.istore 4, 2) := dk_54 4 (dk_at dksJ15_getChars_2_1 16 rfl rfl)
theorem dJ15_getChars_2_41 : decode cJ15_getChars_2 41 = .ok (.iload_n 3, 1) := dk_29 (dk_at dksJ15_getChars_2_1 18 rfl rfl)
theorem dJ15_getChars_2_42 : decode cJ15_getChars_2 42 = .ok (.istore_n 0, 1) := dk_59 (dk_at dksJ15_getChars_2_1 19 rfl rfl)
theorem dJ15_getChars_2_43 : decode cJ15_getChars_2 43 = .ok (.aload_n 2, 1) := dk_44 (dk_at dksJ15_getChars_2_1 20 rfl rfl)
theorem dJ15_getChars_2_44 : decode cJ15_getChars_2 44 = .ok (.iinc 5 (-1), 3) := dk_132 5 255 (dk_at dksJ15_getChars_2_1 21 rfl rfl)
theorem dJ15_getChars_2_47 : decode cJ15_getChars_2 47 = .ok (.iload 5, 2) := dk_21 5 (dk_at dksJ15_getChars_2_2 0 rfl rfl)
theorem dJ15_getChars_2_49 : decode cJ15_getChars_2 49 = .ok (.getstatic 403, 3) := dk_178 1 147 (dk_at dksJ15_getChars_2_2 2 rfl rfl)
theorem dJ15_getChars_2_52 : decode cJ15_getChars_2 52 = .ok (.iload 4, 2) := dk_21 4 (dk_at dksJ15_getChars_2_2 5 rfl rfl)
theorem dJ15_getChars_2_54 : decode cJ15_getChars_2 54 = .ok (.baload, 1) := dk_51 (dk_at dksJ15_getChars_2_2 7 rfl rfl)
theorem dJ15_getChars_2_55 : decode cJ15_getChars_2 55 = .ok (.invokestatic 111, 3) := dk_184 0 111 (dk_at dksJ15_getChars_2_2 8 rfl rfl)
theorem dJ15_getChars_2_58 : decode cJ15_getChars_2 58 = .ok (.aload_n 2, 1) := dk_44 (dk_at dksJ15_getChars_2_2 11 rfl rfl)
theorem dJ15_getChars_2_59 : decode cJ15_getChars_2 59 = .ok (.iinc 5 (-1), 3) := dk_132 5 255 (dk_at dksJ15_getChars_2_2 12 rfl rfl)
theorem dJ15_getChars_2_62 : decode cJ15_getChars_2 62 = .ok (.iload 5, 2) := dk_21 5 (dk_at dksJ15_getChars_2_2 15 rfl rfl)
theorem dJ15_getChars_2_64 : decode cJ15_getChars_2 64 = .ok (.getstatic 407, 3) := dk_178 1 151 (dk_at dksJ15_getChars_2_2 17 rfl rfl)
theorem dJ15_getChars_2_67 : decode cJ15_getChars_2 67 = .ok (.iload 4, 2) := dk_21 4 (dk_at dksJ15_getChars_2_2 20 rfl rfl)
theorem dJ15_getChars_2_69 : decode cJ15_getChars_2 69 = .ok (.baload, 1) := dk_51 (dk_at dksJ15_getChars_2_2 22 rfl rfl)
theorem dJ15_getChars_2_70 : decode cJ15_getChars_2 70 = .ok (.invokestatic 111, 3) := dk_184 0 111 (dk_at dksJ15_getChars_2_3 0 rfl rfl)
theorem dJ15_getChars_2_73 : decode cJ15_getChars_2 73 = .ok (.goto (-51), 3) := dk_167 255 205 (dk_at dksJ15_getChars_2_3 3 rfl rfl)
theorem dJ15_getChars_2_76 : decode cJ15_getChars_2 76 = .ok (.aload_n 2, 1) := dk_44 (dk_at dksJ15_getChars_2_3 6 rfl rfl)
theorem dJ15_getChars_2_77 : decode cJ15_getChars_2 77 = .ok (.iinc 5 (-1), 3) := dk_132 5 255 (dk_at dksJ15_getChars_2_3 7 rfl rfl)
theorem dJ15_getChars_2_80 : decode cJ15_getChars_2 80 = .ok (.iload 5, 2) := dk_21 5 (dk_at dksJ15_getChars_2_3 10 rfl rfl)
theorem dJ15_getChars_2_82 : decode cJ15_getChars_2 82 = .ok (.getstatic 403, 3) := dk_178 1 147 (dk_at dksJ15_getChars_2_3 12 rfl rfl)
theorem dJ15_getChars_2_85 : decode cJ15_getChars_2 85 = .ok (.iload_n 0, 1) := dk_26 (dk_at dksJ15_getChars_2_3 15 rfl rfl)
theorem dJ15_getChars_2_86 : decode cJ15_getChars_2 86 = .ok (.ineg, 1) := dk_116 (dk_at dksJ15_getChars_2_3 16 rfl rfl)
theorem dJ15_getChars_2_87 : decode cJ15_getChars_2 87 = .ok (.baload, 1) := dk_51 (dk_at dksJ15_getChars_2_3 17 rfl rfl)
theorem dJ15_getChars_2_88 : decode cJ15_getChars_2 88 = .ok (.invokestatic 111, 3) := dk_184 0 111 (dk_at dksJ15_getChars_2_3 18 rfl rfl)
theorem dJ15_getChars_2_91 : decode cJ15_getChars_2 91 = .ok (.iload_n 0, 1) := dk_26 (dk_at dksJ15_getChars_2_3 21 rfl rfl)
theorem dJ15_getChars_2_92 : decode cJ15_getChars_2 92 = .ok (.bipush (-9), 2) := dk_16 247 (dk_at dksJ15_getChars_2_3 22 rfl rfl)
theorem dJ15_getChars_2_94 : decode cJ15_getChars_2 94 = .ok (.if_icmp .ge 18, 3) := dk_162 0 18 (dk_at dksJ15_getChars_2_4 0 rfl rfl)
theorem dJ15_getChars_2_97 : decode cJ15_getChars_2 97 = .ok (.aload_n 2, 1) := dk_44 (dk_at dksJ15_getChars_2_4 3 rfl rfl)
theorem dJ15_getChars_2_98 : decode cJ15_getChars_2 98 = .ok (.iinc 5 (-1), 3) := dk_132 5 255 (dk_at dksJ15_getChars_2_4 4 rfl rfl)
theorem dJ15_getChars_2_101 : decode cJ15_getChars_2 101 = .ok (.iload 5, 2) := dk_21 5 (dk_at dksJ15_getChars_2_4 7 rfl rfl)
theorem dJ15_getChars_2_103 : decode cJ15_getChars_2 103 = .ok (.getstatic 407, 3) := dk_178 1 151 (dk_at dksJ15_getChars_2_4 9 rfl rfl)
theorem dJ15_getChars_2_106 : decode cJ15_getChars_2 106 = .ok (.iload_n 0, 1) := dk_26 (dk_at dksJ15_getChars_2_4 12 rfl rfl)
theorem dJ15_getChars_2_107 : decode cJ15_getChars_2 107 = .ok (.ineg, 1) := dk_116 (dk_at dksJ15_getChars_2_4 13 rfl rfl)
theorem dJ15_getChars_2_108 : decode cJ15_getChars_2 108 = .ok (.baload, 1) := dk_51 (dk_at dksJ15_getChars_2_4 14 rfl rfl)
theorem dJ15_getChars_2_109 : decode cJ15_getChars_2 109 = .ok (.invokestatic 111, 3) := dk_184 0 111 (dk_at dksJ15_getChars_2_4 15 rfl rfl)
theorem dJ15_getChars_2_112 : decode cJ15_getChars_2 112 = .ok (.iload 6, 2) := dk_21 6 (dk_at dksJ15_getChars_2_4 18 rfl rfl)
theorem dJ15_getChars_2_114 : decode cJ15_getChars_2 114 = .ok (.ifCond .eq 14, 3) := dk_153 0 14 (dk_at dksJ15_getChars_2_4 20 rfl rfl)
theorem dJ15_getChars_2_117 : decode cJ15_getChars_2 117 = .ok (.aload_n 2, 1) := dk_44 (dk_at dksJ15_getChars_2_4 23 rfl rfl)
theorem dJ15_getChars_2_118 : decode cJ15_getChars_2 118 = .ok (.iinc 5 (-1), 3) := dk_132 5 255 (dk_at dksJ15_getChars_2_5 0 rfl rfl)
theorem dJ15_getChars_2_121 : decode cJ15_getChars_2 121 = .ok (.iload 5, 2) := dk_21 5 (dk_at dksJ15_getChars_2_5 3 rfl rfl)
theorem dJ15_getChars_2_123 : decode cJ15_getChars_2 123 = .ok (.bipush 45, 2) := dk_16 45 (dk_at dksJ15_getChars_2_5 5 rfl rfl)
theorem dJ15_getChars_2_125 : decode cJ15_getChars_2 125 = .ok (.invokestatic 111, 3) := dk_184 0 111 (dk_at dksJ15_getChars_2_5 7 rfl rfl)
theorem dJ15_getChars_2_128 : decode cJ15_getChars_2 128 = .ok (.iload 5, 2) := dk_21 5 (dk_at dksJ15_getChars_2_5 10 rfl rfl)
theorem dJ15_getChars_2_130 : decode cJ15_getChars_2 130 = .ok (.ireturn, 1) := dk_172 (dk_at dksJ15_getChars_2_5 12 rfl rfl)
abbrev cJ15_putCharsAt : ByteArray := prog_35_method_81_code
def yJ15_putCharsAt : MethodName := ⟨RJ15, "putCharsAt", "([BICCCC)I"⟩
def dkwJ15_putCharsAt_3 : List UInt8 := [21, 6, 172]
abbrev dktJ15_putCharsAt_3 : List UInt8 := dkwJ15_putCharsAt_3 ++ []
def dkwJ15_putCharsAt_2 : List UInt8 := [184, 0, 111, 178, 0, 44, 154, 0, 17, 27, 21, 6, 159, 0, 11, 187, 0, 52, 89, 183, 0, 66, 191]
abbrev dktJ15_putCharsAt_2 : List UInt8 := dkwJ15_putCharsAt_2 ++ dktJ15_putCharsAt_3
def dkwJ15_putCharsAt_1 : List UInt8 := [132, 1, 1, 29, 184, 0, 111, 42, 27, 132, 1, 1, 21, 4, 184, 0, 111, 42, 27, 132, 1, 1, 21, 5]
abbrev dktJ15_putCharsAt_1 : List UInt8 := dkwJ15_putCharsAt_1 ++ dktJ15_putCharsAt_2
def dkwJ15_putCharsAt_0 : List UInt8 := [27, 7, 96, 54, 6, 27, 21, 6, 42, 184, 0, 96, 42, 27, 132, 1, 1, 28, 184, 0, 111, 42, 27]
abbrev dktJ15_putCharsAt_0 : List UInt8 := dkwJ15_putCharsAt_0 ++ dktJ15_putCharsAt_1
theorem dksJ15_putCharsAt_0 : cJ15_putCharsAt.data.toList.drop 0 = dktJ15_putCharsAt_0 := by decide +kernel
theorem dksJ15_putCharsAt_1 : cJ15_putCharsAt.data.toList.drop 23 = dktJ15_putCharsAt_1 := dk_seg dksJ15_putCharsAt_0 23 rfl rfl
theorem dksJ15_putCharsAt_2 : cJ15_putCharsAt.data.toList.drop 47 = dktJ15_putCharsAt_2 := dk_seg dksJ15_putCharsAt_1 24 rfl rfl
theorem dksJ15_putCharsAt_3 : cJ15_putCharsAt.data.toList.drop 70 = dktJ15_putCharsAt_3 := dk_seg dksJ15_putCharsAt_2 23 rfl rfl
theorem dJ15_putCharsAt_0 : decode cJ15_putCharsAt 0 = .ok (.iload_n 1, 1) := dk_27 (dk_at dksJ15_putCharsAt_0 0 rfl rfl)
theorem dJ15_putCharsAt_1 : decode cJ15_putCharsAt 1 = .ok (.iconst 4, 1) := dk_7 (dk_at dksJ15_putCharsAt_0 1 rfl rfl)
theorem dJ15_putCharsAt_2 : decode cJ15_putCharsAt 2 = .ok (.iadd, 1) := dk_96 (dk_at dksJ15_putCharsAt_0 2 rfl rfl)
theorem dJ15_putCharsAt_3 : decode cJ15_putCharsAt 3 = .ok (.istore 6, 2) := dk_54 6 (dk_at dksJ15_putCharsAt_0 3 rfl rfl)
theorem dJ15_putCharsAt_5 : decode cJ15_putCharsAt 5 = .ok (.iload_n 1, 1) := dk_27 (dk_at dksJ15_putCharsAt_0 5 rfl rfl)
theorem dJ15_putCharsAt_6 : decode cJ15_putCharsAt 6 = .ok (.iload 6, 2) := dk_21 6 (dk_at dksJ15_putCharsAt_0 6 rfl rfl)
theorem dJ15_putCharsAt_8 : decode cJ15_putCharsAt 8 = .ok (.aload_n 0, 1) := dk_42 (dk_at dksJ15_putCharsAt_0 8 rfl rfl)
theorem dJ15_putCharsAt_9 : decode cJ15_putCharsAt 9 = .ok (.invokestatic 96, 3) := dk_184 0 96 (dk_at dksJ15_putCharsAt_0 9 rfl rfl)
theorem dJ15_putCharsAt_12 : decode cJ15_putCharsAt 12 = .ok (.aload_n 0, 1) := dk_42 (dk_at dksJ15_putCharsAt_0 12 rfl rfl)
theorem dJ15_putCharsAt_13 : decode cJ15_putCharsAt 13 = .ok (.iload_n 1, 1) := dk_27 (dk_at dksJ15_putCharsAt_0 13 rfl rfl)
theorem dJ15_putCharsAt_14 : decode cJ15_putCharsAt 14 = .ok (.iinc 1 1, 3) := dk_132 1 1 (dk_at dksJ15_putCharsAt_0 14 rfl rfl)
theorem dJ15_putCharsAt_17 : decode cJ15_putCharsAt 17 = .ok (.iload_n 2, 1) := dk_28 (dk_at dksJ15_putCharsAt_0 17 rfl rfl)
theorem dJ15_putCharsAt_18 : decode cJ15_putCharsAt 18 = .ok (.invokestatic 111, 3) := dk_184 0 111 (dk_at dksJ15_putCharsAt_0 18 rfl rfl)
theorem dJ15_putCharsAt_21 : decode cJ15_putCharsAt 21 = .ok (.aload_n 0, 1) := dk_42 (dk_at dksJ15_putCharsAt_0 21 rfl rfl)
theorem dJ15_putCharsAt_22 : decode cJ15_putCharsAt 22 = .ok (.iload_n 1, 1) := dk_27 (dk_at dksJ15_putCharsAt_0 22 rfl rfl)
theorem dJ15_putCharsAt_23 : decode cJ15_putCharsAt 23 = .ok (.iinc 1 1, 3) := dk_132 1 1 (dk_at dksJ15_putCharsAt_1 0 rfl rfl)
theorem dJ15_putCharsAt_26 : decode cJ15_putCharsAt 26 = .ok (.iload_n 3, 1) := dk_29 (dk_at dksJ15_putCharsAt_1 3 rfl rfl)
theorem dJ15_putCharsAt_27 : decode cJ15_putCharsAt 27 = .ok (.invokestatic 111, 3) := dk_184 0 111 (dk_at dksJ15_putCharsAt_1 4 rfl rfl)
theorem dJ15_putCharsAt_30 : decode cJ15_putCharsAt 30 = .ok (.aload_n 0, 1) := dk_42 (dk_at dksJ15_putCharsAt_1 7 rfl rfl)
theorem dJ15_putCharsAt_31 : decode cJ15_putCharsAt 31 = .ok (.iload_n 1, 1) := dk_27 (dk_at dksJ15_putCharsAt_1 8 rfl rfl)
theorem dJ15_putCharsAt_32 : decode cJ15_putCharsAt 32 = .ok (.iinc 1 1, 3) := dk_132 1 1 (dk_at dksJ15_putCharsAt_1 9 rfl rfl)
theorem dJ15_putCharsAt_35 : decode cJ15_putCharsAt 35 = .ok (.iload 4, 2) := dk_21 4 (dk_at dksJ15_putCharsAt_1 12 rfl rfl)
theorem dJ15_putCharsAt_37 : decode cJ15_putCharsAt 37 = .ok (.invokestatic 111, 3) := dk_184 0 111 (dk_at dksJ15_putCharsAt_1 14 rfl rfl)
theorem dJ15_putCharsAt_40 : decode cJ15_putCharsAt 40 = .ok (.aload_n 0, 1) := dk_42 (dk_at dksJ15_putCharsAt_1 17 rfl rfl)
theorem dJ15_putCharsAt_41 : decode cJ15_putCharsAt 41 = .ok (.iload_n 1, 1) := dk_27 (dk_at dksJ15_putCharsAt_1 18 rfl rfl)
theorem dJ15_putCharsAt_42 : decode cJ15_putCharsAt 42 = .ok (.iinc 1 1, 3) := dk_132 1 1 (dk_at dksJ15_putCharsAt_1 19 rfl rfl)
theorem dJ15_putCharsAt_45 : decode cJ15_putCharsAt 45 = .ok (.iload 5, 2) := dk_21 5 (dk_at dksJ15_putCharsAt_1 22 rfl rfl)
theorem dJ15_putCharsAt_47 : decode cJ15_putCharsAt 47 = .ok (.invokestatic 111, 3) := dk_184 0 111 (dk_at dksJ15_putCharsAt_2 0 rfl rfl)
theorem dJ15_putCharsAt_50 : decode cJ15_putCharsAt 50 = .ok (.getstatic 44, 3) := dk_178 0 44 (dk_at dksJ15_putCharsAt_2 3 rfl rfl)
theorem dJ15_putCharsAt_53 : decode cJ15_putCharsAt 53 = .ok (.ifCond .ne 17, 3) := dk_154 0 17 (dk_at dksJ15_putCharsAt_2 6 rfl rfl)
theorem dJ15_putCharsAt_56 : decode cJ15_putCharsAt 56 = .ok (.iload_n 1, 1) := dk_27 (dk_at dksJ15_putCharsAt_2 9 rfl rfl)
theorem dJ15_putCharsAt_57 : decode cJ15_putCharsAt 57 = .ok (.iload 6, 2) := dk_21 6 (dk_at dksJ15_putCharsAt_2 10 rfl rfl)
theorem dJ15_putCharsAt_59 : decode cJ15_putCharsAt 59 = .ok (.if_icmp .eq 11, 3) := dk_159 0 11 (dk_at dksJ15_putCharsAt_2 12 rfl rfl)
theorem dJ15_putCharsAt_62 : decode cJ15_putCharsAt 62 = .ok (.new 52, 3) := dk_187 0 52 (dk_at dksJ15_putCharsAt_2 15 rfl rfl)
theorem dJ15_putCharsAt_65 : decode cJ15_putCharsAt 65 = .ok (.dup, 1) := dk_89 (dk_at dksJ15_putCharsAt_2 18 rfl rfl)
theorem dJ15_putCharsAt_66 : decode cJ15_putCharsAt 66 = .ok (.invokespecial 66, 3) := dk_183 0 66 (dk_at dksJ15_putCharsAt_2 19 rfl rfl)
theorem dJ15_putCharsAt_69 : decode cJ15_putCharsAt 69 = .ok (.athrow, 1) := dk_191 (dk_at dksJ15_putCharsAt_2 22 rfl rfl)
theorem dJ15_putCharsAt_70 : decode cJ15_putCharsAt 70 = .ok (.iload 6, 2) := dk_21 6 (dk_at dksJ15_putCharsAt_3 0 rfl rfl)
theorem dJ15_putCharsAt_72 : decode cJ15_putCharsAt 72 = .ok (.ireturn, 1) := dk_172 (dk_at dksJ15_putCharsAt_3 2 rfl rfl)
abbrev cJ15_compress : ByteArray := prog_35_method_17_code
def yJ15_compress : MethodName := ⟨RJ15, "compress", "([BII)[B"⟩
def dkwJ15_compress_2 : List UInt8 := [25, 5, 3, 45, 3, 28, 184, 0, 123, 28, 159, 0, 6, 25, 5, 176, 45, 176]
abbrev dktJ15_compress_2 : List UInt8 := dkwJ15_compress_2 ++ []
def dkwJ15_compress_1 : List UInt8 := [27, 28, 96, 184, 0, 11, 184, 0, 126, 58, 5, 25, 5, 21, 4, 184, 0, 71, 17, 0, 255, 163, 0, 16]
abbrev dktJ15_compress_1 : List UInt8 := dkwJ15_compress_1 ++ dktJ15_compress_2
def dkwJ15_compress_0 : List UInt8 := [28, 188, 8, 78, 42, 27, 45, 3, 28, 184, 0, 123, 54, 4, 21, 4, 28, 159, 0, 47, 42, 27, 4, 120]
abbrev dktJ15_compress_0 : List UInt8 := dkwJ15_compress_0 ++ dktJ15_compress_1
theorem dksJ15_compress_0 : cJ15_compress.data.toList.drop 0 = dktJ15_compress_0 := by decide +kernel
theorem dksJ15_compress_1 : cJ15_compress.data.toList.drop 24 = dktJ15_compress_1 := dk_seg dksJ15_compress_0 24 rfl rfl
theorem dksJ15_compress_2 : cJ15_compress.data.toList.drop 48 = dktJ15_compress_2 := dk_seg dksJ15_compress_1 24 rfl rfl
theorem dJ15_compress_0 : decode cJ15_compress 0 = .ok (.iload_n 2, 1) := dk_28 (dk_at dksJ15_compress_0 0 rfl rfl)
theorem dJ15_compress_1 : decode cJ15_compress 1 = .ok (.newarray .byte, 2) := dk_188_8 (dk_at dksJ15_compress_0 1 rfl rfl)
theorem dJ15_compress_3 : decode cJ15_compress 3 = .ok (.astore_n 3, 1) := dk_78 (dk_at dksJ15_compress_0 3 rfl rfl)
theorem dJ15_compress_4 : decode cJ15_compress 4 = .ok (.aload_n 0, 1) := dk_42 (dk_at dksJ15_compress_0 4 rfl rfl)
theorem dJ15_compress_5 : decode cJ15_compress 5 = .ok (.iload_n 1, 1) := dk_27 (dk_at dksJ15_compress_0 5 rfl rfl)
theorem dJ15_compress_6 : decode cJ15_compress 6 = .ok (.aload_n 3, 1) := dk_45 (dk_at dksJ15_compress_0 6 rfl rfl)
theorem dJ15_compress_7 : decode cJ15_compress 7 = .ok (.iconst 0, 1) := dk_3 (dk_at dksJ15_compress_0 7 rfl rfl)
theorem dJ15_compress_8 : decode cJ15_compress 8 = .ok (.iload_n 2, 1) := dk_28 (dk_at dksJ15_compress_0 8 rfl rfl)
theorem dJ15_compress_9 : decode cJ15_compress 9 = .ok (.invokestatic 123, 3) := dk_184 0 123 (dk_at dksJ15_compress_0 9 rfl rfl)
theorem dJ15_compress_12 : decode cJ15_compress 12 = .ok (.istore 4, 2) := dk_54 4 (dk_at dksJ15_compress_0 12 rfl rfl)
theorem dJ15_compress_14 : decode cJ15_compress 14 = .ok (.iload 4, 2) := dk_21 4 (dk_at dksJ15_compress_0 14 rfl rfl)
theorem dJ15_compress_16 : decode cJ15_compress 16 = .ok (.iload_n 2, 1) := dk_28 (dk_at dksJ15_compress_0 16 rfl rfl)
theorem dJ15_compress_17 : decode cJ15_compress 17 = .ok (.if_icmp .eq 47, 3) := dk_159 0 47 (dk_at dksJ15_compress_0 17 rfl rfl)
theorem dJ15_compress_20 : decode cJ15_compress 20 = .ok (.aload_n 0, 1) := dk_42 (dk_at dksJ15_compress_0 20 rfl rfl)
theorem dJ15_compress_21 : decode cJ15_compress 21 = .ok (.iload_n 1, 1) := dk_27 (dk_at dksJ15_compress_0 21 rfl rfl)
theorem dJ15_compress_22 : decode cJ15_compress 22 = .ok (.iconst 1, 1) := dk_4 (dk_at dksJ15_compress_0 22 rfl rfl)
theorem dJ15_compress_23 : decode cJ15_compress 23 = .ok (.ishl, 1) := dk_120 (dk_at dksJ15_compress_0 23 rfl rfl)
theorem dJ15_compress_24 : decode cJ15_compress 24 = .ok (.iload_n 1, 1) := dk_27 (dk_at dksJ15_compress_1 0 rfl rfl)
theorem dJ15_compress_25 : decode cJ15_compress 25 = .ok (.iload_n 2, 1) := dk_28 (dk_at dksJ15_compress_1 1 rfl rfl)
theorem dJ15_compress_26 : decode cJ15_compress 26 = .ok (.iadd, 1) := dk_96 (dk_at dksJ15_compress_1 2 rfl rfl)
theorem dJ15_compress_27 : decode cJ15_compress 27 = .ok (.invokestatic 11, 3) := dk_184 0 11 (dk_at dksJ15_compress_1 3 rfl rfl)
theorem dJ15_compress_30 : decode cJ15_compress 30 = .ok (.invokestatic 126, 3) := dk_184 0 126 (dk_at dksJ15_compress_1 6 rfl rfl)
theorem dJ15_compress_33 : decode cJ15_compress 33 = .ok (.astore 5, 2) := dk_58 5 (dk_at dksJ15_compress_1 9 rfl rfl)
theorem dJ15_compress_35 : decode cJ15_compress 35 = .ok (.aload 5, 2) := dk_25 5 (dk_at dksJ15_compress_1 11 rfl rfl)
theorem dJ15_compress_37 : decode cJ15_compress 37 = .ok (.iload 4, 2) := dk_21 4 (dk_at dksJ15_compress_1 13 rfl rfl)
theorem dJ15_compress_39 : decode cJ15_compress 39 = .ok (.invokestatic 71, 3) := dk_184 0 71 (dk_at dksJ15_compress_1 15 rfl rfl)
theorem dJ15_compress_42 : decode cJ15_compress 42 = .ok (.sipush 255, 3) := dk_17 0 255 (dk_at dksJ15_compress_1 18 rfl rfl)
theorem dJ15_compress_45 : decode cJ15_compress 45 = .ok (.if_icmp .gt 16, 3) := dk_163 0 16 (dk_at dksJ15_compress_1 21 rfl rfl)
theorem dJ15_compress_48 : decode cJ15_compress 48 = .ok (.aload 5, 2) := dk_25 5 (dk_at dksJ15_compress_2 0 rfl rfl)
theorem dJ15_compress_50 : decode cJ15_compress 50 = .ok (.iconst 0, 1) := dk_3 (dk_at dksJ15_compress_2 2 rfl rfl)
theorem dJ15_compress_51 : decode cJ15_compress 51 = .ok (.aload_n 3, 1) := dk_45 (dk_at dksJ15_compress_2 3 rfl rfl)
theorem dJ15_compress_52 : decode cJ15_compress 52 = .ok (.iconst 0, 1) := dk_3 (dk_at dksJ15_compress_2 4 rfl rfl)
theorem dJ15_compress_53 : decode cJ15_compress 53 = .ok (.iload_n 2, 1) := dk_28 (dk_at dksJ15_compress_2 5 rfl rfl)
theorem dJ15_compress_54 : decode cJ15_compress 54 = .ok (.invokestatic 123, 3) := dk_184 0 123 (dk_at dksJ15_compress_2 6 rfl rfl)
theorem dJ15_compress_57 : decode cJ15_compress 57 = .ok (.iload_n 2, 1) := dk_28 (dk_at dksJ15_compress_2 9 rfl rfl)
theorem dJ15_compress_58 : decode cJ15_compress 58 = .ok (.if_icmp .eq 6, 3) := dk_159 0 6 (dk_at dksJ15_compress_2 10 rfl rfl)
theorem dJ15_compress_61 : decode cJ15_compress 61 = .ok (.aload 5, 2) := dk_25 5 (dk_at dksJ15_compress_2 13 rfl rfl)
theorem dJ15_compress_63 : decode cJ15_compress 63 = .ok (.areturn, 1) := dk_176 (dk_at dksJ15_compress_2 15 rfl rfl)
theorem dJ15_compress_64 : decode cJ15_compress 64 = .ok (.aload_n 3, 1) := dk_45 (dk_at dksJ15_compress_2 16 rfl rfl)
theorem dJ15_compress_65 : decode cJ15_compress 65 = .ok (.areturn, 1) := dk_176 (dk_at dksJ15_compress_2 17 rfl rfl)
abbrev cJ15_compress_2 : ByteArray := prog_35_method_22_code
def yJ15_compress_2 : MethodName := ⟨RJ15, "compress", "([BI[BII)I"⟩
def dkwJ15_compress_2_2 : List UInt8 := [132, 5, 1, 167, 255, 216, 21, 4, 172]
abbrev dktJ15_compress_2_2 : List UInt8 := dkwJ15_compress_2_2 ++ []
def dkwJ15_compress_2_1 : List UInt8 := [21, 6, 17, 0, 255, 164, 0, 6, 21, 5, 172, 44, 29, 21, 6, 145, 84, 132, 1, 1, 132, 3, 1]
abbrev dktJ15_compress_2_1 : List UInt8 := dkwJ15_compress_2_1 ++ dktJ15_compress_2_2
def dkwJ15_compress_2_0 : List UInt8 := [27, 21, 4, 42, 184, 0, 173, 3, 54, 5, 21, 5, 21, 4, 162, 0, 39, 42, 27, 184, 0, 71, 54, 6]
abbrev dktJ15_compress_2_0 : List UInt8 := dkwJ15_compress_2_0 ++ dktJ15_compress_2_1
theorem dksJ15_compress_2_0 : cJ15_compress_2.data.toList.drop 0 = dktJ15_compress_2_0 := by decide +kernel
theorem dksJ15_compress_2_1 : cJ15_compress_2.data.toList.drop 24 = dktJ15_compress_2_1 := dk_seg dksJ15_compress_2_0 24 rfl rfl
theorem dksJ15_compress_2_2 : cJ15_compress_2.data.toList.drop 47 = dktJ15_compress_2_2 := dk_seg dksJ15_compress_2_1 23 rfl rfl
theorem dJ15_compress_2_0 : decode cJ15_compress_2 0 = .ok (.iload_n 1, 1) := dk_27 (dk_at dksJ15_compress_2_0 0 rfl rfl)
theorem dJ15_compress_2_1 : decode cJ15_compress_2 1 = .ok (.iload 4, 2) := dk_21 4 (dk_at dksJ15_compress_2_0 1 rfl rfl)
theorem dJ15_compress_2_3 : decode cJ15_compress_2 3 = .ok (.aload_n 0, 1) := dk_42 (dk_at dksJ15_compress_2_0 3 rfl rfl)
theorem dJ15_compress_2_4 : decode cJ15_compress_2 4 = .ok (.invokestatic 173, 3) := dk_184 0 173 (dk_at dksJ15_compress_2_0 4 rfl rfl)
theorem dJ15_compress_2_7 : decode cJ15_compress_2 7 = .ok (.iconst 0, 1) := dk_3 (dk_at dksJ15_compress_2_0 7 rfl rfl)
theorem dJ15_compress_2_8 : decode cJ15_compress_2 8 = .ok (.istore 5, 2) := dk_54 5 (dk_at dksJ15_compress_2_0 8 rfl rfl)
theorem dJ15_compress_2_10 : decode cJ15_compress_2 10 = .ok (.iload 5, 2) := dk_21 5 (dk_at dksJ15_compress_2_0 10 rfl rfl)
theorem dJ15_compress_2_12 : decode cJ15_compress_2 12 = .ok (.iload 4, 2) := dk_21 4 (dk_at dksJ15_compress_2_0 12 rfl rfl)
theorem dJ15_compress_2_14 : decode cJ15_compress_2 14 = .ok (.if_icmp .ge 39, 3) := dk_162 0 39 (dk_at dksJ15_compress_2_0 14 rfl rfl)
theorem dJ15_compress_2_17 : decode cJ15_compress_2 17 = .ok (.aload_n 0, 1) := dk_42 (dk_at dksJ15_compress_2_0 17 rfl rfl)
theorem dJ15_compress_2_18 : decode cJ15_compress_2 18 = .ok (.iload_n 1, 1) := dk_27 (dk_at dksJ15_compress_2_0 18 rfl rfl)
theorem dJ15_compress_2_19 : decode cJ15_compress_2 19 = .ok (.invokestatic 71, 3) := dk_184 0 71 (dk_at dksJ15_compress_2_0 19 rfl rfl)
theorem dJ15_compress_2_22 : decode cJ15_compress_2 22 = .ok (.istore 6, 2) := dk_54 6 (dk_at dksJ15_compress_2_0 22 rfl rfl)
theorem dJ15_compress_2_24 : decode cJ15_compress_2 24 = .ok (.iload 6, 2) := dk_21 6 (dk_at dksJ15_compress_2_1 0 rfl rfl)
theorem dJ15_compress_2_26 : decode cJ15_compress_2 26 = .ok (.sipush 255, 3) := dk_17 0 255 (dk_at dksJ15_compress_2_1 2 rfl rfl)
theorem dJ15_compress_2_29 : decode cJ15_compress_2 29 = .ok (.if_icmp .le 6, 3) := dk_164 0 6 (dk_at dksJ15_compress_2_1 5 rfl rfl)
theorem dJ15_compress_2_32 : decode cJ15_compress_2 32 = .ok (.iload 5, 2) := dk_21 5 (dk_at dksJ15_compress_2_1 8 rfl rfl)
theorem dJ15_compress_2_34 : decode cJ15_compress_2 34 = .ok (.ireturn, 1) := dk_172 (dk_at dksJ15_compress_2_1 10 rfl rfl)
theorem dJ15_compress_2_35 : decode cJ15_compress_2 35 = .ok (.aload_n 2, 1) := dk_44 (dk_at dksJ15_compress_2_1 11 rfl rfl)
theorem dJ15_compress_2_36 : decode cJ15_compress_2 36 = .ok (.iload_n 3, 1) := dk_29 (dk_at dksJ15_compress_2_1 12 rfl rfl)
theorem dJ15_compress_2_37 : decode cJ15_compress_2 37 = .ok (.iload 6, 2) := dk_21 6 (dk_at dksJ15_compress_2_1 13 rfl rfl)
theorem dJ15_compress_2_39 : decode cJ15_compress_2 39 = .ok (.i2b, 1) := dk_145 (dk_at dksJ15_compress_2_1 15 rfl rfl)
theorem dJ15_compress_2_40 : decode cJ15_compress_2 40 = .ok (.bastore, 1) := dk_84 (dk_at dksJ15_compress_2_1 16 rfl rfl)
theorem dJ15_compress_2_41 : decode cJ15_compress_2 41 = .ok (.iinc 1 1, 3) := dk_132 1 1 (dk_at dksJ15_compress_2_1 17 rfl rfl)
theorem dJ15_compress_2_44 : decode cJ15_compress_2 44 = .ok (.iinc 3 1, 3) := dk_132 3 1 (dk_at dksJ15_compress_2_1 20 rfl rfl)
theorem dJ15_compress_2_47 : decode cJ15_compress_2 47 = .ok (.iinc 5 1, 3) := dk_132 5 1 (dk_at dksJ15_compress_2_2 0 rfl rfl)
theorem dJ15_compress_2_50 : decode cJ15_compress_2 50 = .ok (.goto (-40), 3) := dk_167 255 216 (dk_at dksJ15_compress_2_2 3 rfl rfl)
theorem dJ15_compress_2_53 : decode cJ15_compress_2 53 = .ok (.iload 4, 2) := dk_21 4 (dk_at dksJ15_compress_2_2 6 rfl rfl)
theorem dJ15_compress_2_55 : decode cJ15_compress_2 55 = .ok (.ireturn, 1) := dk_172 (dk_at dksJ15_compress_2_2 8 rfl rfl)
abbrev cJ15_coderFromArrayLen : ByteArray := prog_35_method_15_code
def yJ15_coderFromArrayLen : MethodName := ⟨RJ15, "coderFromArrayLen", "([BI)B"⟩
def dkwJ15_coderFromArrayLen_0 : List UInt8 := [27, 42, 190, 100, 16, 31, 124, 145, 172]
abbrev dktJ15_coderFromArrayLen_0 : List UInt8 := dkwJ15_coderFromArrayLen_0 ++ []
theorem dksJ15_coderFromArrayLen_0 : cJ15_coderFromArrayLen.data.toList.drop 0 = dktJ15_coderFromArrayLen_0 := by decide +kernel
theorem dJ15_coderFromArrayLen_0 : decode cJ15_coderFromArrayLen 0 = .ok (.iload_n 1, 1) := dk_27 (dk_at dksJ15_coderFromArrayLen_0 0 rfl rfl)
theorem dJ15_coderFromArrayLen_1 : decode cJ15_coderFromArrayLen 1 = .ok (.aload_n 0, 1) := dk_42 (dk_at dksJ15_coderFromArrayLen_0 1 rfl rfl)
theorem dJ15_coderFromArrayLen_2 : decode cJ15_coderFromArrayLen 2 = .ok (.arraylength, 1) := dk_190 (dk_at dksJ15_coderFromArrayLen_0 2 rfl rfl)
theorem dJ15_coderFromArrayLen_3 : decode cJ15_coderFromArrayLen 3 = .ok (.isub, 1) := dk_100 (dk_at dksJ15_coderFromArrayLen_0 3 rfl rfl)
theorem dJ15_coderFromArrayLen_4 : decode cJ15_coderFromArrayLen 4 = .ok (.bipush 31, 2) := dk_16 31 (dk_at dksJ15_coderFromArrayLen_0 4 rfl rfl)
theorem dJ15_coderFromArrayLen_6 : decode cJ15_coderFromArrayLen 6 = .ok (.iushr, 1) := dk_124 (dk_at dksJ15_coderFromArrayLen_0 6 rfl rfl)
theorem dJ15_coderFromArrayLen_7 : decode cJ15_coderFromArrayLen 7 = .ok (.i2b, 1) := dk_145 (dk_at dksJ15_coderFromArrayLen_0 7 rfl rfl)
theorem dJ15_coderFromArrayLen_8 : decode cJ15_coderFromArrayLen 8 = .ok (.ireturn, 1) := dk_172 (dk_at dksJ15_coderFromArrayLen_0 8 rfl rfl)
abbrev cJ15_hashCode : ByteArray := prog_35_method_39_code
def yJ15_hashCode : MethodName := ⟨RJ15, "hashCode", "([B)I"⟩
def dkwJ15_hashCode_2 : List UInt8 := [3, 167, 0, 22, 42, 3, 184, 0, 71, 167, 0, 14, 42, 3, 42, 190, 4, 122, 3, 8, 184, 0, 220, 172]
abbrev dktJ15_hashCode_2 : List UInt8 := dkwJ15_hashCode_2 ++ []
def dkwJ15_hashCode_1 : List UInt8 := [171, 0, 0, 0, 0, 38, 0, 0, 0, 2, 0, 0, 0, 0, 0, 0, 0, 26, 0, 0, 0, 2, 0, 0, 0, 30]
abbrev dktJ15_hashCode_1 : List UInt8 := dkwJ15_hashCode_1 ++ dktJ15_hashCode_2
def dkwJ15_hashCode_0 : List UInt8 := [42, 190]
abbrev dktJ15_hashCode_0 : List UInt8 := dkwJ15_hashCode_0 ++ dktJ15_hashCode_1
theorem dksJ15_hashCode_0 : cJ15_hashCode.data.toList.drop 0 = dktJ15_hashCode_0 := by decide +kernel
theorem dksJ15_hashCode_1 : cJ15_hashCode.data.toList.drop 2 = dktJ15_hashCode_1 := dk_seg dksJ15_hashCode_0 2 rfl rfl
theorem dksJ15_hashCode_2 : cJ15_hashCode.data.toList.drop 28 = dktJ15_hashCode_2 := dk_seg dksJ15_hashCode_1 26 rfl rfl
theorem dJ15_hashCode_0 : decode cJ15_hashCode 0 = .ok (.aload_n 0, 1) := dk_42 (dk_at dksJ15_hashCode_0 0 rfl rfl)
theorem dJ15_hashCode_1 : decode cJ15_hashCode 1 = .ok (.arraylength, 1) := dk_190 (dk_at dksJ15_hashCode_0 1 rfl rfl)
theorem dJ15_hashCode_2 : decode cJ15_hashCode 2 = .ok (.lookupswitch 38 #[(0, 26), (2, 30)], 26) := by decide +kernel
theorem dJ15_hashCode_28 : decode cJ15_hashCode 28 = .ok (.iconst 0, 1) := dk_3 (dk_at dksJ15_hashCode_2 0 rfl rfl)
theorem dJ15_hashCode_29 : decode cJ15_hashCode 29 = .ok (.goto 22, 3) := dk_167 0 22 (dk_at dksJ15_hashCode_2 1 rfl rfl)
theorem dJ15_hashCode_32 : decode cJ15_hashCode 32 = .ok (.aload_n 0, 1) := dk_42 (dk_at dksJ15_hashCode_2 4 rfl rfl)
theorem dJ15_hashCode_33 : decode cJ15_hashCode 33 = .ok (.iconst 0, 1) := dk_3 (dk_at dksJ15_hashCode_2 5 rfl rfl)
theorem dJ15_hashCode_34 : decode cJ15_hashCode 34 = .ok (.invokestatic 71, 3) := dk_184 0 71 (dk_at dksJ15_hashCode_2 6 rfl rfl)
theorem dJ15_hashCode_37 : decode cJ15_hashCode 37 = .ok (.goto 14, 3) := dk_167 0 14 (dk_at dksJ15_hashCode_2 9 rfl rfl)
theorem dJ15_hashCode_40 : decode cJ15_hashCode 40 = .ok (.aload_n 0, 1) := dk_42 (dk_at dksJ15_hashCode_2 12 rfl rfl)
theorem dJ15_hashCode_41 : decode cJ15_hashCode 41 = .ok (.iconst 0, 1) := dk_3 (dk_at dksJ15_hashCode_2 13 rfl rfl)
theorem dJ15_hashCode_42 : decode cJ15_hashCode 42 = .ok (.aload_n 0, 1) := dk_42 (dk_at dksJ15_hashCode_2 14 rfl rfl)
theorem dJ15_hashCode_43 : decode cJ15_hashCode 43 = .ok (.arraylength, 1) := dk_190 (dk_at dksJ15_hashCode_2 15 rfl rfl)
theorem dJ15_hashCode_44 : decode cJ15_hashCode 44 = .ok (.iconst 1, 1) := dk_4 (dk_at dksJ15_hashCode_2 16 rfl rfl)
theorem dJ15_hashCode_45 : decode cJ15_hashCode 45 = .ok (.ishr, 1) := dk_122 (dk_at dksJ15_hashCode_2 17 rfl rfl)
theorem dJ15_hashCode_46 : decode cJ15_hashCode 46 = .ok (.iconst 0, 1) := dk_3 (dk_at dksJ15_hashCode_2 18 rfl rfl)
theorem dJ15_hashCode_47 : decode cJ15_hashCode 47 = .ok (.iconst 5, 1) := dk_8 (dk_at dksJ15_hashCode_2 19 rfl rfl)
theorem dJ15_hashCode_48 : decode cJ15_hashCode 48 = .ok (.invokestatic 220, 3) := dk_184 0 220 (dk_at dksJ15_hashCode_2 20 rfl rfl)
theorem dJ15_hashCode_51 : decode cJ15_hashCode 51 = .ok (.ireturn, 1) := dk_172 (dk_at dksJ15_hashCode_2 23 rfl rfl)
abbrev cJ15_newString : ByteArray := prog_35_method_69_code
def yJ15_newString : MethodName := ⟨RJ15, "newString", "([BII)Ljava/lang/String;"⟩
def dkwJ15_newString_2 : List UInt8 := [42, 27, 4, 120, 29, 4, 120, 184, 0, 126, 4, 183, 1, 7, 176]
abbrev dktJ15_newString_2 : List UInt8 := dkwJ15_newString_2 ++ []
def dkwJ15_newString_1 : List UInt8 := [184, 1, 3, 54, 4, 187, 0, 3, 89, 45, 21, 4, 183, 1, 7, 176, 27, 28, 96, 62, 187, 0, 3, 89]
abbrev dktJ15_newString_1 : List UInt8 := dkwJ15_newString_1 ++ dktJ15_newString_2
def dkwJ15_newString_0 : List UInt8 := [28, 154, 0, 7, 19, 1, 39, 176, 178, 0, 251, 153, 0, 28, 42, 27, 28, 184, 1, 1, 78, 45, 28]
abbrev dktJ15_newString_0 : List UInt8 := dkwJ15_newString_0 ++ dktJ15_newString_1
theorem dksJ15_newString_0 : cJ15_newString.data.toList.drop 0 = dktJ15_newString_0 := by decide +kernel
theorem dksJ15_newString_1 : cJ15_newString.data.toList.drop 23 = dktJ15_newString_1 := dk_seg dksJ15_newString_0 23 rfl rfl
theorem dksJ15_newString_2 : cJ15_newString.data.toList.drop 47 = dktJ15_newString_2 := dk_seg dksJ15_newString_1 24 rfl rfl
theorem dJ15_newString_0 : decode cJ15_newString 0 = .ok (.iload_n 2, 1) := dk_28 (dk_at dksJ15_newString_0 0 rfl rfl)
theorem dJ15_newString_1 : decode cJ15_newString 1 = .ok (.ifCond .ne 7, 3) := dk_154 0 7 (dk_at dksJ15_newString_0 1 rfl rfl)
theorem dJ15_newString_4 : decode cJ15_newString 4 = .ok (.ldc_w 295, 3) := dk_19 1 39 (dk_at dksJ15_newString_0 4 rfl rfl)
theorem dJ15_newString_7 : decode cJ15_newString 7 = .ok (.areturn, 1) := dk_176 (dk_at dksJ15_newString_0 7 rfl rfl)
theorem dJ15_newString_8 : decode cJ15_newString 8 = .ok (.getstatic 251, 3) := dk_178 0 251 (dk_at dksJ15_newString_0 8 rfl rfl)
theorem dJ15_newString_11 : decode cJ15_newString 11 = .ok (.ifCond .eq 28, 3) := dk_153 0 28 (dk_at dksJ15_newString_0 11 rfl rfl)
theorem dJ15_newString_14 : decode cJ15_newString 14 = .ok (.aload_n 0, 1) := dk_42 (dk_at dksJ15_newString_0 14 rfl rfl)
theorem dJ15_newString_15 : decode cJ15_newString 15 = .ok (.iload_n 1, 1) := dk_27 (dk_at dksJ15_newString_0 15 rfl rfl)
theorem dJ15_newString_16 : decode cJ15_newString 16 = .ok (.iload_n 2, 1) := dk_28 (dk_at dksJ15_newString_0 16 rfl rfl)
theorem dJ15_newString_17 : decode cJ15_newString 17 = .ok (.invokestatic 257, 3) := dk_184 1 1 (dk_at dksJ15_newString_0 17 rfl rfl)
theorem dJ15_newString_20 : decode cJ15_newString 20 = .ok (.astore_n 3, 1) := dk_78 (dk_at dksJ15_newString_0 20 rfl rfl)
theorem dJ15_newString_21 : decode cJ15_newString 21 = .ok (.aload_n 3, 1) := dk_45 (dk_at dksJ15_newString_0 21 rfl rfl)
theorem dJ15_newString_22 : decode cJ15_newString 22 = .ok (.iload_n 2, 1) := dk_28 (dk_at dksJ15_newString_0 22 rfl rfl)
theorem dJ15_newString_23 : decode cJ15_newString 23 = .ok (.invokestatic 259, 3) := dk_184 1 3 (dk_at dksJ15_newString_1 0 rfl rfl)
theorem dJ15_newString_26 : decode cJ15_newString 26 = .ok (.istore 4, 2) := dk_54 4 (dk_at dksJ15_newString_1 3 rfl rfl)
theorem dJ15_newString_28 : decode cJ15_newString 28 = .ok (.new 3, 3) := dk_187 0 3 (dk_at dksJ15_newString_1 5 rfl rfl)
theorem dJ15_newString_31 : decode cJ15_newString 31 = .ok (.dup, 1) := dk_89 (dk_at dksJ15_newString_1 8 rfl rfl)
theorem dJ15_newString_32 : decode cJ15_newString 32 = .ok (.aload_n 3, 1) := dk_45 (dk_at dksJ15_newString_1 9 rfl rfl)
theorem dJ15_newString_33 : decode cJ15_newString 33 = .ok (.iload 4, 2) := dk_21 4 (dk_at dksJ15_newString_1 10 rfl rfl)
theorem dJ15_newString_35 : decode cJ15_newString 35 = .ok (.invokespecial 263, 3) := dk_183 1 7 (dk_at dksJ15_newString_1 12 rfl rfl)
theorem dJ15_newString_38 : decode cJ15_newString 38 = .ok (.areturn, 1) := dk_176 (dk_at dksJ15_newString_1 15 rfl rfl)
theorem dJ15_newString_39 : decode cJ15_newString 39 = .ok (.iload_n 1, 1) := dk_27 (dk_at dksJ15_newString_1 16 rfl rfl)
theorem dJ15_newString_40 : decode cJ15_newString 40 = .ok (.iload_n 2, 1) := dk_28 (dk_at dksJ15_newString_1 17 rfl rfl)
theorem dJ15_newString_41 : decode cJ15_newString 41 = .ok (.iadd, 1) := dk_96 (dk_at dksJ15_newString_1 18 rfl rfl)
theorem dJ15_newString_42 : decode cJ15_newString 42 = .ok (.istore_n 3, 1) := dk_62 (dk_at dksJ15_newString_1 19 rfl rfl)
theorem dJ15_newString_43 : decode cJ15_newString 43 = .ok (.new 3, 3) := dk_187 0 3 (dk_at dksJ15_newString_1 20 rfl rfl)
theorem dJ15_newString_46 : decode cJ15_newString 46 = .ok (.dup, 1) := dk_89 (dk_at dksJ15_newString_1 23 rfl rfl)
theorem dJ15_newString_47 : decode cJ15_newString 47 = .ok (.aload_n 0, 1) := dk_42 (dk_at dksJ15_newString_2 0 rfl rfl)
theorem dJ15_newString_48 : decode cJ15_newString 48 = .ok (.iload_n 1, 1) := dk_27 (dk_at dksJ15_newString_2 1 rfl rfl)
theorem dJ15_newString_49 : decode cJ15_newString 49 = .ok (.iconst 1, 1) := dk_4 (dk_at dksJ15_newString_2 2 rfl rfl)
theorem dJ15_newString_50 : decode cJ15_newString 50 = .ok (.ishl, 1) := dk_120 (dk_at dksJ15_newString_2 3 rfl rfl)
theorem dJ15_newString_51 : decode cJ15_newString 51 = .ok (.iload_n 3, 1) := dk_29 (dk_at dksJ15_newString_2 4 rfl rfl)
theorem dJ15_newString_52 : decode cJ15_newString 52 = .ok (.iconst 1, 1) := dk_4 (dk_at dksJ15_newString_2 5 rfl rfl)
theorem dJ15_newString_53 : decode cJ15_newString 53 = .ok (.ishl, 1) := dk_120 (dk_at dksJ15_newString_2 6 rfl rfl)
theorem dJ15_newString_54 : decode cJ15_newString 54 = .ok (.invokestatic 126, 3) := dk_184 0 126 (dk_at dksJ15_newString_2 7 rfl rfl)
theorem dJ15_newString_57 : decode cJ15_newString 57 = .ok (.iconst 1, 1) := dk_4 (dk_at dksJ15_newString_2 10 rfl rfl)
theorem dJ15_newString_58 : decode cJ15_newString 58 = .ok (.invokespecial 263, 3) := dk_183 1 7 (dk_at dksJ15_newString_2 11 rfl rfl)
theorem dJ15_newString_61 : decode cJ15_newString 61 = .ok (.areturn, 1) := dk_176 (dk_at dksJ15_newString_2 14 rfl rfl)
theorem q136 : (Jvm.Cond.initialized "java/lang/StringUTF16") ∈ lw_all := lw_g (lw_at lw_m1 21 rfl) rfl
theorem q490 : (Jvm.Cond.static ({ cls := "java/lang/StringUTF16", name := "charAt", desc := "([BI)C" } : Jvm.MethodName)) ∈ lw_all := lw_g (lw_at lw_m2 135 rfl) rfl
theorem q491 : (Jvm.Cond.code ({ cls := "java/lang/StringUTF16", name := "charAt", desc := "([BI)C" } : Jvm.MethodName) prog_35_method_83_code (2 : Nat) (Option.some Jvm.ClassFile.FieldType.char)) ∈ lw_all := lw_g (lw_at lw_m2 136 rfl) rfl
theorem q492 : (Jvm.Cond.methodLink "java/lang/StringUTF16" (67 : Nat) ({ cls := "java/lang/StringUTF16", name := "checkIndex", desc := "(I[B)V" } : Jvm.MethodName)) ∈ lw_all := lw_g (lw_at lw_m2 137 rfl) rfl
theorem q493 : (Jvm.Cond.static ({ cls := "java/lang/StringUTF16", name := "checkIndex", desc := "(I[B)V" } : Jvm.MethodName)) ∈ lw_all := lw_g (lw_at lw_m2 138 rfl) rfl
theorem q494 : (Jvm.Cond.code ({ cls := "java/lang/StringUTF16", name := "checkIndex", desc := "(I[B)V" } : Jvm.MethodName) prog_35_method_91_code (2 : Nat) (Option.none : Option Jvm.ClassFile.FieldType)) ∈ lw_all := lw_g (lw_at lw_m2 139 rfl) rfl
theorem q495 : (Jvm.Cond.methodLink "java/lang/StringUTF16" (48 : Nat) ({ cls := "java/lang/StringUTF16", name := "length", desc := "([B)I" } : Jvm.MethodName)) ∈ lw_all := lw_g (lw_at lw_m2 140 rfl) rfl
theorem q496 : (Jvm.Cond.static ({ cls := "java/lang/StringUTF16", name := "length", desc := "([B)I" } : Jvm.MethodName)) ∈ lw_all := lw_g (lw_at lw_m2 141 rfl) rfl
theorem q497 : (Jvm.Cond.code ({ cls := "java/lang/StringUTF16", name := "length", desc := "([B)I" } : Jvm.MethodName) prog_35_method_6_code (1 : Nat) (Option.some Jvm.ClassFile.FieldType.int)) ∈ lw_all := lw_g (lw_at lw_m2 142 rfl) rfl
theorem q498 : (Jvm.Cond.methodLink "java/lang/StringUTF16" (414 : Nat) ({ cls := "java/lang/String", name := "checkIndex", desc := "(II)V" } : Jvm.MethodName)) ∈ lw_all := lw_g (lw_at lw_m2 143 rfl) rfl
theorem q499 : (Jvm.Cond.methodLink "java/lang/StringUTF16" (71 : Nat) ({ cls := "java/lang/StringUTF16", name := "getChar", desc := "([BI)C" } : Jvm.MethodName)) ∈ lw_all := lw_g (lw_at lw_m2 144 rfl) rfl
theorem q500 : (Jvm.Cond.static ({ cls := "java/lang/StringUTF16", name := "getChar", desc := "([BI)C" } : Jvm.MethodName)) ∈ lw_all := lw_g (lw_at lw_m2 145 rfl) rfl
theorem q501 : (Jvm.Cond.code ({ cls := "java/lang/StringUTF16", name := "getChar", desc := "([BI)C" } : Jvm.MethodName) prog_35_method_5_code (2 : Nat) (Option.some Jvm.ClassFile.FieldType.char)) ∈ lw_all := lw_g (lw_at lw_m2 146 rfl) rfl
theorem q502 : (Jvm.Cond.fieldLink "java/lang/StringUTF16" (44 : Nat) "java/lang/StringUTF16" "$assertionsDisabled" "Z") ∈ lw_all := lw_g (lw_at lw_m2 147 rfl) rfl
theorem q503 : (Jvm.Cond.laysStatic "java/lang/StringUTF16" "$assertionsDisabled" "Z") ∈ lw_tbl := lw_at lw_m2 148 rfl
theorem q504 : (Jvm.Cond.fieldLink "java/lang/StringUTF16" (59 : Nat) "java/lang/StringUTF16" "HI_BYTE_SHIFT" "I") ∈ lw_all := lw_g (lw_at lw_m2 149 rfl) rfl
theorem q505 : (Jvm.Cond.laysStatic "java/lang/StringUTF16" "HI_BYTE_SHIFT" "I") ∈ lw_tbl := lw_at lw_m2 150 rfl
theorem q506 : (Jvm.Cond.fieldLink "java/lang/StringUTF16" (63 : Nat) "java/lang/StringUTF16" "LO_BYTE_SHIFT" "I") ∈ lw_all := lw_g (lw_at lw_m2 151 rfl) rfl
theorem q507 : (Jvm.Cond.laysStatic "java/lang/StringUTF16" "LO_BYTE_SHIFT" "I") ∈ lw_tbl := lw_at lw_m2 152 rfl
theorem q787 : (Jvm.Cond.static ({ cls := "java/lang/StringUTF16", name := "newBytesFor", desc := "(I)[B" } : Jvm.MethodName)) ∈ lw_all := lw_g (lw_at lw_m3 192 rfl) rfl
theorem q788 : (Jvm.Cond.code ({ cls := "java/lang/StringUTF16", name := "newBytesFor", desc := "(I)[B" } : Jvm.MethodName) prog_35_method_2_code (1 : Nat) (Option.some (Jvm.ClassFile.FieldType.array Jvm.ClassFile.FieldType.byte))) ∈ lw_all := lw_g (lw_at lw_m3 193 rfl) rfl
theorem q789 : (Jvm.Cond.methodLink "java/lang/StringUTF16" (11 : Nat) ({ cls := "java/lang/StringUTF16", name := "newBytesLength", desc := "(I)I" } : Jvm.MethodName)) ∈ lw_all := lw_g (lw_at lw_m3 194 rfl) rfl
theorem q790 : (Jvm.Cond.static ({ cls := "java/lang/StringUTF16", name := "newBytesLength", desc := "(I)I" } : Jvm.MethodName)) ∈ lw_all := lw_g (lw_at lw_m3 195 rfl) rfl
theorem q791 : (Jvm.Cond.code ({ cls := "java/lang/StringUTF16", name := "newBytesLength", desc := "(I)I" } : Jvm.MethodName) prog_35_method_3_code (1 : Nat) (Option.some Jvm.ClassFile.FieldType.int)) ∈ lw_all := lw_g (lw_at lw_m3 196 rfl) rfl
theorem q792 : (Jvm.Cond.constant "java/lang/StringUTF16" (20 : Nat) (1073741823 : Int32)) ∈ lw_all := lw_g (lw_at lw_m3 197 rfl) rfl
theorem q858 : (Jvm.Cond.static ({ cls := "java/lang/StringUTF16", name := "inflate", desc := "([BI[BII)V" } : Jvm.MethodName)) ∈ lw_all := lw_g (lw_at lw_m4 23 rfl) rfl
theorem q859 : (Jvm.Cond.code ({ cls := "java/lang/StringUTF16", name := "inflate", desc := "([BI[BII)V" } : Jvm.MethodName) prog_35_method_86_code (6 : Nat) (Option.none : Option Jvm.ClassFile.FieldType)) ∈ lw_all := lw_g (lw_at lw_m4 24 rfl) rfl
theorem q860 : (Jvm.Cond.methodLink "java/lang/StringUTF16" (173 : Nat) ({ cls := "java/lang/StringUTF16", name := "checkBoundsOffCount", desc := "(II[B)V" } : Jvm.MethodName)) ∈ lw_all := lw_g (lw_at lw_m4 25 rfl) rfl
theorem q861 : (Jvm.Cond.static ({ cls := "java/lang/StringUTF16", name := "checkBoundsOffCount", desc := "(II[B)V" } : Jvm.MethodName)) ∈ lw_all := lw_g (lw_at lw_m4 26 rfl) rfl
theorem q862 : (Jvm.Cond.code ({ cls := "java/lang/StringUTF16", name := "checkBoundsOffCount", desc := "(II[B)V" } : Jvm.MethodName) prog_35_method_94_code (3 : Nat) (Option.none : Option Jvm.ClassFile.FieldType)) ∈ lw_all := lw_g (lw_at lw_m4 27 rfl) rfl
theorem q863 : (Jvm.Cond.methodLink "java/lang/StringUTF16" (419 : Nat) ({ cls := "java/lang/String", name := "checkBoundsOffCount", desc := "(III)I" } : Jvm.MethodName)) ∈ lw_all := lw_g (lw_at lw_m4 28 rfl) rfl
theorem q869 : (Jvm.Cond.methodLink "java/lang/StringUTF16" (111 : Nat) ({ cls := "java/lang/StringUTF16", name := "putChar", desc := "([BII)V" } : Jvm.MethodName)) ∈ lw_all := lw_g (lw_at lw_m4 34 rfl) rfl
theorem q870 : (Jvm.Cond.static ({ cls := "java/lang/StringUTF16", name := "putChar", desc := "([BII)V" } : Jvm.MethodName)) ∈ lw_all := lw_g (lw_at lw_m4 35 rfl) rfl
theorem q871 : (Jvm.Cond.code ({ cls := "java/lang/StringUTF16", name := "putChar", desc := "([BII)V" } : Jvm.MethodName) prog_35_method_4_code (3 : Nat) (Option.none : Option Jvm.ClassFile.FieldType)) ∈ lw_all := lw_g (lw_at lw_m4 36 rfl) rfl
theorem q873 : (Jvm.Cond.static ({ cls := "java/lang/StringUTF16", name := "putCharSB", desc := "([BII)V" } : Jvm.MethodName)) ∈ lw_all := lw_g (lw_at lw_m4 38 rfl) rfl
theorem q874 : (Jvm.Cond.code ({ cls := "java/lang/StringUTF16", name := "putCharSB", desc := "([BII)V" } : Jvm.MethodName) prog_35_method_71_code (3 : Nat) (Option.none : Option Jvm.ClassFile.FieldType)) ∈ lw_all := lw_g (lw_at lw_m4 39 rfl) rfl
theorem q940 : (Jvm.Cond.static ({ cls := "java/lang/StringUTF16", name := "getChars", desc := "(III[B)I" } : Jvm.MethodName)) ∈ lw_all := lw_g (lw_at lw_m4 105 rfl) rfl
theorem q941 : (Jvm.Cond.code ({ cls := "java/lang/StringUTF16", name := "getChars", desc := "(III[B)I" } : Jvm.MethodName) prog_35_method_77_code (5 : Nat) (Option.some Jvm.ClassFile.FieldType.int)) ∈ lw_all := lw_g (lw_at lw_m4 106 rfl) rfl
theorem q942 : (Jvm.Cond.methodLink "java/lang/StringUTF16" (96 : Nat) ({ cls := "java/lang/StringUTF16", name := "checkBoundsBeginEnd", desc := "(II[B)V" } : Jvm.MethodName)) ∈ lw_all := lw_g (lw_at lw_m4 107 rfl) rfl
theorem q943 : (Jvm.Cond.static ({ cls := "java/lang/StringUTF16", name := "checkBoundsBeginEnd", desc := "(II[B)V" } : Jvm.MethodName)) ∈ lw_all := lw_g (lw_at lw_m4 108 rfl) rfl
theorem q944 : (Jvm.Cond.code ({ cls := "java/lang/StringUTF16", name := "checkBoundsBeginEnd", desc := "(II[B)V" } : Jvm.MethodName) prog_35_method_93_code (3 : Nat) (Option.none : Option Jvm.ClassFile.FieldType)) ∈ lw_all := lw_g (lw_at lw_m4 109 rfl) rfl
theorem q945 : (Jvm.Cond.methodLink "java/lang/StringUTF16" (241 : Nat) ({ cls := "java/lang/String", name := "checkBoundsBeginEnd", desc := "(III)V" } : Jvm.MethodName)) ∈ lw_all := lw_g (lw_at lw_m4 110 rfl) rfl
theorem q951 : (Jvm.Cond.methodLink "java/lang/StringUTF16" (393 : Nat) ({ cls := "java/lang/StringUTF16", name := "getChars", desc := "(II[B)I" } : Jvm.MethodName)) ∈ lw_all := lw_g (lw_at lw_m4 116 rfl) rfl
theorem q952 : (Jvm.Cond.static ({ cls := "java/lang/StringUTF16", name := "getChars", desc := "(II[B)I" } : Jvm.MethodName)) ∈ lw_all := lw_g (lw_at lw_m4 117 rfl) rfl
theorem q953 : (Jvm.Cond.code ({ cls := "java/lang/StringUTF16", name := "getChars", desc := "(II[B)I" } : Jvm.MethodName) prog_35_method_89_code (7 : Nat) (Option.some Jvm.ClassFile.FieldType.int)) ∈ lw_all := lw_g (lw_at lw_m4 118 rfl) rfl
theorem q954 : (Jvm.Cond.fieldLink "java/lang/StringUTF16" (403 : Nat) "java/lang/Integer" "DigitOnes" "[B") ∈ lw_all := lw_g (lw_at lw_m4 119 rfl) rfl
theorem q955 : (Jvm.Cond.fieldLink "java/lang/StringUTF16" (407 : Nat) "java/lang/Integer" "DigitTens" "[B") ∈ lw_all := lw_g (lw_at lw_m4 120 rfl) rfl
theorem q969 : (Jvm.Cond.static ({ cls := "java/lang/StringUTF16", name := "putCharsAt", desc := "([BICCCC)I" } : Jvm.MethodName)) ∈ lw_all := lw_g (lw_at lw_m4 134 rfl) rfl
theorem q970 : (Jvm.Cond.code ({ cls := "java/lang/StringUTF16", name := "putCharsAt", desc := "([BICCCC)I" } : Jvm.MethodName) prog_35_method_81_code (7 : Nat) (Option.some Jvm.ClassFile.FieldType.int)) ∈ lw_all := lw_g (lw_at lw_m4 135 rfl) rfl
theorem q1003 : (Jvm.Cond.static ({ cls := "java/lang/StringUTF16", name := "compress", desc := "([BII)[B" } : Jvm.MethodName)) ∈ lw_all := lw_g (lw_at lw_m4 168 rfl) rfl
theorem q1004 : (Jvm.Cond.code ({ cls := "java/lang/StringUTF16", name := "compress", desc := "([BII)[B" } : Jvm.MethodName) prog_35_method_17_code (6 : Nat) (Option.some (Jvm.ClassFile.FieldType.array Jvm.ClassFile.FieldType.byte))) ∈ lw_all := lw_g (lw_at lw_m4 169 rfl) rfl
theorem q1005 : (Jvm.Cond.methodLink "java/lang/StringUTF16" (123 : Nat) ({ cls := "java/lang/StringUTF16", name := "compress", desc := "([BI[BII)I" } : Jvm.MethodName)) ∈ lw_all := lw_g (lw_at lw_m4 170 rfl) rfl
theorem q1006 : (Jvm.Cond.static ({ cls := "java/lang/StringUTF16", name := "compress", desc := "([BI[BII)I" } : Jvm.MethodName)) ∈ lw_all := lw_g (lw_at lw_m4 171 rfl) rfl
theorem q1007 : (Jvm.Cond.code ({ cls := "java/lang/StringUTF16", name := "compress", desc := "([BI[BII)I" } : Jvm.MethodName) prog_35_method_22_code (7 : Nat) (Option.some Jvm.ClassFile.FieldType.int)) ∈ lw_all := lw_g (lw_at lw_m4 172 rfl) rfl
theorem q1008 : (Jvm.Cond.methodLink "java/lang/StringUTF16" (126 : Nat) ({ cls := "java/util/Arrays", name := "copyOfRange", desc := "([BII)[B" } : Jvm.MethodName)) ∈ lw_all := lw_g (lw_at lw_m4 173 rfl) rfl
theorem q1010 : (Jvm.Cond.static ({ cls := "java/lang/StringUTF16", name := "coderFromArrayLen", desc := "([BI)B" } : Jvm.MethodName)) ∈ lw_all := lw_g (lw_at lw_m4 175 rfl) rfl
theorem q1011 : (Jvm.Cond.code ({ cls := "java/lang/StringUTF16", name := "coderFromArrayLen", desc := "([BI)B" } : Jvm.MethodName) prog_35_method_15_code (2 : Nat) (Option.some Jvm.ClassFile.FieldType.byte)) ∈ lw_all := lw_g (lw_at lw_m4 176 rfl) rfl
theorem q1127 : (Jvm.Cond.static ({ cls := "java/lang/StringUTF16", name := "hashCode", desc := "([B)I" } : Jvm.MethodName)) ∈ lw_all := lw_g (lw_at lw_m5 52 rfl) rfl
theorem q1128 : (Jvm.Cond.code ({ cls := "java/lang/StringUTF16", name := "hashCode", desc := "([B)I" } : Jvm.MethodName) prog_35_method_39_code (1 : Nat) (Option.some Jvm.ClassFile.FieldType.int)) ∈ lw_all := lw_g (lw_at lw_m5 53 rfl) rfl
theorem q1129 : (Jvm.Cond.methodLink "java/lang/StringUTF16" (220 : Nat) ({ cls := "jdk/internal/util/ArraysSupport", name := "vectorizedHashCode", desc := "(Ljava/lang/Object;IIII)I" } : Jvm.MethodName)) ∈ lw_all := lw_g (lw_at lw_m5 54 rfl) rfl
theorem q2211 : (Jvm.Cond.static ({ cls := "java/lang/StringUTF16", name := "newString", desc := "([BII)Ljava/lang/String;" } : Jvm.MethodName)) ∈ lw_all := lw_g (lw_at lw_m9 176 rfl) rfl
theorem q2212 : (Jvm.Cond.code ({ cls := "java/lang/StringUTF16", name := "newString", desc := "([BII)Ljava/lang/String;" } : Jvm.MethodName) prog_35_method_69_code (5 : Nat) (Option.some (Jvm.ClassFile.FieldType.object "java/lang/String"))) ∈ lw_all := lw_g (lw_at lw_m9 177 rfl) rfl
theorem q2213 : (Jvm.Cond.stringRef "java/lang/StringUTF16" (295 : Nat) "") ∈ lw_tbl := lw_at lw_m9 178 rfl
theorem q2214 : (Jvm.Cond.fieldLink "java/lang/StringUTF16" (251 : Nat) "java/lang/String" "COMPACT_STRINGS" "Z") ∈ lw_all := lw_g (lw_at lw_m9 179 rfl) rfl
theorem q2215 : (Jvm.Cond.methodLink "java/lang/StringUTF16" (257 : Nat) ({ cls := "java/lang/StringUTF16", name := "compress", desc := "([BII)[B" } : Jvm.MethodName)) ∈ lw_all := lw_g (lw_at lw_m9 180 rfl) rfl
theorem q2216 : (Jvm.Cond.methodLink "java/lang/StringUTF16" (259 : Nat) ({ cls := "java/lang/StringUTF16", name := "coderFromArrayLen", desc := "([BI)B" } : Jvm.MethodName)) ∈ lw_all := lw_g (lw_at lw_m9 181 rfl) rfl
theorem q2217 : (Jvm.Cond.classLink "java/lang/StringUTF16" (3 : Nat) "java/lang/String") ∈ lw_all := lw_g (lw_at lw_m9 182 rfl) rfl
theorem q2218 : (Jvm.Cond.methodLink "java/lang/StringUTF16" (263 : Nat) ({ cls := "java/lang/String", name := "<init>", desc := "([BB)V" } : Jvm.MethodName)) ∈ lw_all := lw_g (lw_at lw_m9 183 rfl) rfl
/-! jdk/internal/util/ArraysSupport -/
set_option maxRecDepth 100000
def RJ16 : String := "jdk/internal/util/ArraysSupport"
abbrev cJ16_newLength : ByteArray := prog_70_method_27_code
def yJ16_newLength : MethodName := ⟨RJ16, "newLength", "(III)I"⟩
def dkwJ16_newLength_1 : List UInt8 := [184, 0, 201, 172]
abbrev dktJ16_newLength_1 : List UInt8 := dkwJ16_newLength_1 ++ []
def dkwJ16_newLength_0 : List UInt8 := [26, 27, 28, 184, 0, 194, 96, 62, 3, 29, 162, 0, 11, 29, 18, 200, 163, 0, 5, 29, 172, 26, 27]
abbrev dktJ16_newLength_0 : List UInt8 := dkwJ16_newLength_0 ++ dktJ16_newLength_1
theorem dksJ16_newLength_0 : cJ16_newLength.data.toList.drop 0 = dktJ16_newLength_0 := by decide +kernel
theorem dksJ16_newLength_1 : cJ16_newLength.data.toList.drop 23 = dktJ16_newLength_1 := dk_seg dksJ16_newLength_0 23 rfl rfl
theorem dJ16_newLength_0 : decode cJ16_newLength 0 = .ok (.iload_n 0, 1) := dk_26 (dk_at dksJ16_newLength_0 0 rfl rfl)
theorem dJ16_newLength_1 : decode cJ16_newLength 1 = .ok (.iload_n 1, 1) := dk_27 (dk_at dksJ16_newLength_0 1 rfl rfl)
theorem dJ16_newLength_2 : decode cJ16_newLength 2 = .ok (.iload_n 2, 1) := dk_28 (dk_at dksJ16_newLength_0 2 rfl rfl)
theorem dJ16_newLength_3 : decode cJ16_newLength 3 = .ok (.invokestatic 194, 3) := dk_184 0 194 (dk_at dksJ16_newLength_0 3 rfl rfl)
theorem dJ16_newLength_6 : decode cJ16_newLength 6 = .ok (.iadd, 1) := dk_96 (dk_at dksJ16_newLength_0 6 rfl rfl)
theorem dJ16_newLength_7 : decode cJ16_newLength 7 = .ok (.istore_n 3, 1) := dk_62 (dk_at dksJ16_newLength_0 7 rfl rfl)
theorem dJ16_newLength_8 : decode cJ16_newLength 8 = .ok (.iconst 0, 1) := dk_3 (dk_at dksJ16_newLength_0 8 rfl rfl)
theorem dJ16_newLength_9 : decode cJ16_newLength 9 = .ok (.iload_n 3, 1) := dk_29 (dk_at dksJ16_newLength_0 9 rfl rfl)
theorem dJ16_newLength_10 : decode cJ16_newLength 10 = .ok (.if_icmp .ge 11, 3) := dk_162 0 11 (dk_at dksJ16_newLength_0 10 rfl rfl)
theorem dJ16_newLength_13 : decode cJ16_newLength 13 = .ok (.iload_n 3, 1) := dk_29 (dk_at dksJ16_newLength_0 13 rfl rfl)
theorem dJ16_newLength_14 : decode cJ16_newLength 14 = .ok (.ldc 200, 2) := dk_18 200 (dk_at dksJ16_newLength_0 14 rfl rfl)
theorem dJ16_newLength_16 : decode cJ16_newLength 16 = .ok (.if_icmp .gt 5, 3) := dk_163 0 5 (dk_at dksJ16_newLength_0 16 rfl rfl)
theorem dJ16_newLength_19 : decode cJ16_newLength 19 = .ok (.iload_n 3, 1) := dk_29 (dk_at dksJ16_newLength_0 19 rfl rfl)
theorem dJ16_newLength_20 : decode cJ16_newLength 20 = .ok (.ireturn, 1) := dk_172 (dk_at dksJ16_newLength_0 20 rfl rfl)
theorem dJ16_newLength_21 : decode cJ16_newLength 21 = .ok (.iload_n 0, 1) := dk_26 (dk_at dksJ16_newLength_0 21 rfl rfl)
theorem dJ16_newLength_22 : decode cJ16_newLength 22 = .ok (.iload_n 1, 1) := dk_27 (dk_at dksJ16_newLength_0 22 rfl rfl)
theorem dJ16_newLength_23 : decode cJ16_newLength 23 = .ok (.invokestatic 201, 3) := dk_184 0 201 (dk_at dksJ16_newLength_1 0 rfl rfl)
theorem dJ16_newLength_26 : decode cJ16_newLength 26 = .ok (.ireturn, 1) := dk_172 (dk_at dksJ16_newLength_1 3 rfl rfl)
abbrev cJ16_hugeLength : ByteArray := prog_70_method_28_code
def yJ16_hugeLength : MethodName := ⟨RJ16, "hugeLength", "(II)I"⟩
def dkwJ16_hugeLength_2 : List UInt8 := [191, 28, 18, 200, 163, 0, 6, 18, 200, 172, 28, 172]
abbrev dktJ16_hugeLength_2 : List UInt8 := dkwJ16_hugeLength_2 ++ []
def dkwJ16_hugeLength_1 : List UInt8 := [26, 182, 0, 98, 18, 208, 182, 0, 94, 27, 182, 0, 98, 18, 210, 182, 0, 94, 182, 0, 101, 183, 0, 212]
abbrev dktJ16_hugeLength_1 : List UInt8 := dkwJ16_hugeLength_1 ++ dktJ16_hugeLength_2
def dkwJ16_hugeLength_0 : List UInt8 := [26, 27, 96, 61, 28, 156, 0, 44, 187, 0, 204, 89, 187, 0, 89, 89, 183, 0, 91, 18, 206, 182, 0, 94]
abbrev dktJ16_hugeLength_0 : List UInt8 := dkwJ16_hugeLength_0 ++ dktJ16_hugeLength_1
theorem dksJ16_hugeLength_0 : cJ16_hugeLength.data.toList.drop 0 = dktJ16_hugeLength_0 := by decide +kernel
theorem dksJ16_hugeLength_1 : cJ16_hugeLength.data.toList.drop 24 = dktJ16_hugeLength_1 := dk_seg dksJ16_hugeLength_0 24 rfl rfl
theorem dksJ16_hugeLength_2 : cJ16_hugeLength.data.toList.drop 48 = dktJ16_hugeLength_2 := dk_seg dksJ16_hugeLength_1 24 rfl rfl
theorem dJ16_hugeLength_0 : decode cJ16_hugeLength 0 = .ok (.iload_n 0, 1) := dk_26 (dk_at dksJ16_hugeLength_0 0 rfl rfl)
theorem dJ16_hugeLength_1 : decode cJ16_hugeLength 1 = .ok (.iload_n 1, 1) := dk_27 (dk_at dksJ16_hugeLength_0 1 rfl rfl)
theorem dJ16_hugeLength_2 : decode cJ16_hugeLength 2 = .ok (.iadd, 1) := dk_96 (dk_at dksJ16_hugeLength_0 2 rfl rfl)
theorem dJ16_hugeLength_3 : decode cJ16_hugeLength 3 = .ok (.istore_n 2, 1) := dk_61 (dk_at dksJ16_hugeLength_0 3 rfl rfl)
theorem dJ16_hugeLength_4 : decode cJ16_hugeLength 4 = .ok (.iload_n 2, 1) := dk_28 (dk_at dksJ16_hugeLength_0 4 rfl rfl)
theorem dJ16_hugeLength_5 : decode cJ16_hugeLength 5 = .ok (.ifCond .ge 44, 3) := dk_156 0 44 (dk_at dksJ16_hugeLength_0 5 rfl rfl)
theorem dJ16_hugeLength_8 : decode cJ16_hugeLength 8 = .ok (.new 204, 3) := dk_187 0 204 (dk_at dksJ16_hugeLength_0 8 rfl rfl)
theorem dJ16_hugeLength_11 : decode cJ16_hugeLength 11 = .ok (.dup, 1) := dk_89 (dk_at dksJ16_hugeLength_0 11 rfl rfl)
theorem dJ16_hugeLength_12 : decode cJ16_hugeLength 12 = .ok (.new 89, 3) := dk_187 0 89 (dk_at dksJ16_hugeLength_0 12 rfl rfl)
theorem dJ16_hugeLength_15 : decode cJ16_hugeLength 15 = .ok (.dup, 1) := dk_89 (dk_at dksJ16_hugeLength_0 15 rfl rfl)
theorem dJ16_hugeLength_16 : decode cJ16_hugeLength 16 = .ok (.invokespecial 91, 3) := dk_183 0 91 (dk_at dksJ16_hugeLength_0 16 rfl rfl)
theorem dJ16_hugeLength_19 : decode cJ16_hugeLength 19 = .ok (.ldc 206, 2) := dk_18 206 (dk_at dksJ16_hugeLength_0 19 rfl rfl)
theorem dJ16_hugeLength_21 : decode cJ16_hugeLength 21 = .ok (.invokevirtual 94, 3) := dk_182 0 94 (dk_at dksJ16_hugeLength_0 21 rfl rfl)
theorem dJ16_hugeLength_24 : decode cJ16_hugeLength 24 = .ok (.iload_n 0, 1) := dk_26 (dk_at dksJ16_hugeLength_1 0 rfl rfl)
theorem dJ16_hugeLength_25 : decode cJ16_hugeLength 25 = .ok (.invokevirtual 98, 3) := dk_182 0 98 (dk_at dksJ16_hugeLength_1 1 rfl rfl)
theorem dJ16_hugeLength_28 : decode cJ16_hugeLength 28 = .ok (.ldc 208, 2) := dk_18 208 (dk_at dksJ16_hugeLength_1 4 rfl rfl)
theorem dJ16_hugeLength_30 : decode cJ16_hugeLength 30 = .ok (.invokevirtual 94, 3) := dk_182 0 94 (dk_at dksJ16_hugeLength_1 6 rfl rfl)
theorem dJ16_hugeLength_33 : decode cJ16_hugeLength 33 = .ok (.iload_n 1, 1) := dk_27 (dk_at dksJ16_hugeLength_1 9 rfl rfl)
theorem dJ16_hugeLength_34 : decode cJ16_hugeLength 34 = .ok (.invokevirtual 98, 3) := dk_182 0 98 (dk_at dksJ16_hugeLength_1 10 rfl rfl)
theorem dJ16_hugeLength_37 : decode cJ16_hugeLength 37 = .ok (.ldc 210, 2) := dk_18 210 (dk_at dksJ16_hugeLength_1 13 rfl rfl)
theorem dJ16_hugeLength_39 : decode cJ16_hugeLength 39 = .ok (.invokevirtual 94, 3) := dk_182 0 94 (dk_at dksJ16_hugeLength_1 15 rfl rfl)
theorem dJ16_hugeLength_42 : decode cJ16_hugeLength 42 = .ok (.invokevirtual 101, 3) := dk_182 0 101 (dk_at dksJ16_hugeLength_1 18 rfl rfl)
theorem dJ16_hugeLength_45 : decode cJ16_hugeLength 45 = .ok (.invokespecial 212, 3) := dk_183 0 212 (dk_at dksJ16_hugeLength_1 21 rfl rfl)
theorem dJ16_hugeLength_48 : decode cJ16_hugeLength 48 = .ok (.athrow, 1) := dk_191 (dk_at dksJ16_hugeLength_2 0 rfl rfl)
theorem dJ16_hugeLength_49 : decode cJ16_hugeLength 49 = .ok (.iload_n 2, 1) := dk_28 (dk_at dksJ16_hugeLength_2 1 rfl rfl)
theorem dJ16_hugeLength_50 : decode cJ16_hugeLength 50 = .ok (.ldc 200, 2) := dk_18 200 (dk_at dksJ16_hugeLength_2 2 rfl rfl)
theorem dJ16_hugeLength_52 : decode cJ16_hugeLength 52 = .ok (.if_icmp .gt 6, 3) := dk_163 0 6 (dk_at dksJ16_hugeLength_2 4 rfl rfl)
theorem dJ16_hugeLength_55 : decode cJ16_hugeLength 55 = .ok (.ldc 200, 2) := dk_18 200 (dk_at dksJ16_hugeLength_2 7 rfl rfl)
theorem dJ16_hugeLength_57 : decode cJ16_hugeLength 57 = .ok (.ireturn, 1) := dk_172 (dk_at dksJ16_hugeLength_2 9 rfl rfl)
theorem dJ16_hugeLength_58 : decode cJ16_hugeLength 58 = .ok (.iload_n 2, 1) := dk_28 (dk_at dksJ16_hugeLength_2 10 rfl rfl)
theorem dJ16_hugeLength_59 : decode cJ16_hugeLength 59 = .ok (.ireturn, 1) := dk_172 (dk_at dksJ16_hugeLength_2 11 rfl rfl)
abbrev cJ16_vectorizedHashCode : ByteArray := prog_70_method_4_code
def yJ16_vectorizedHashCode : MethodName := ⟨RJ16, "vectorizedHashCode", "(Ljava/lang/Object;IIII)I"⟩
def dkwJ16_vectorizedHashCode_6 : List UInt8 := [183, 0, 91, 18, 92, 182, 0, 94, 21, 4, 182, 0, 98, 182, 0, 101, 183, 0, 105, 191, 172]
abbrev dktJ16_vectorizedHashCode_6 : List UInt8 := dkwJ16_vectorizedHashCode_6 ++ []
def dkwJ16_vectorizedHashCode_5 : List UInt8 := [167, 0, 44, 29, 42, 192, 0, 82, 27, 28, 184, 0, 84, 167, 0, 31, 187, 0, 87, 89, 187, 0, 89, 89]
abbrev dktJ16_vectorizedHashCode_5 : List UInt8 := dkwJ16_vectorizedHashCode_5 ++ dktJ16_vectorizedHashCode_6
def dkwJ16_vectorizedHashCode_4 : List UInt8 := [29, 42, 192, 0, 60, 27, 28, 184, 0, 75, 167, 0, 57, 29, 42, 192, 0, 77, 27, 28, 184, 0, 79]
abbrev dktJ16_vectorizedHashCode_4 : List UInt8 := dkwJ16_vectorizedHashCode_4 ++ dktJ16_vectorizedHashCode_5
def dkwJ16_vectorizedHashCode_3 : List UInt8 := [192, 0, 60, 27, 28, 184, 0, 66, 167, 0, 83, 29, 42, 192, 0, 69, 27, 28, 184, 0, 71, 167, 0, 70]
abbrev dktJ16_vectorizedHashCode_3 : List UInt8 := dkwJ16_vectorizedHashCode_3 ++ dktJ16_vectorizedHashCode_4
def dkwJ16_vectorizedHashCode_2 : List UInt8 := [29, 42, 192, 0, 60, 27, 28, 184, 0, 62, 167, 0, 103, 42, 193, 0, 60, 153, 0, 16, 29, 42]
abbrev dktJ16_vectorizedHashCode_2 : List UInt8 := dkwJ16_vectorizedHashCode_2 ++ dktJ16_vectorizedHashCode_3
def dkwJ16_vectorizedHashCode_1 : List UInt8 := [170, 0, 0, 0, 0, 127, 0, 0, 0, 4, 0, 0, 0, 10, 0, 0, 0, 42, 0, 0, 0, 55, 0, 0, 0, 127, 0, 0, 0, 127, 0, 0, 0, 88, 0, 0, 0, 101, 0, 0, 0, 114]
abbrev dktJ16_vectorizedHashCode_1 : List UInt8 := dkwJ16_vectorizedHashCode_1 ++ dktJ16_vectorizedHashCode_2
def dkwJ16_vectorizedHashCode_0 : List UInt8 := [21, 4]
abbrev dktJ16_vectorizedHashCode_0 : List UInt8 := dkwJ16_vectorizedHashCode_0 ++ dktJ16_vectorizedHashCode_1
theorem dksJ16_vectorizedHashCode_0 : cJ16_vectorizedHashCode.data.toList.drop 0 = dktJ16_vectorizedHashCode_0 := by decide +kernel
theorem dksJ16_vectorizedHashCode_1 : cJ16_vectorizedHashCode.data.toList.drop 2 = dktJ16_vectorizedHashCode_1 := dk_seg dksJ16_vectorizedHashCode_0 2 rfl rfl
theorem dksJ16_vectorizedHashCode_2 : cJ16_vectorizedHashCode.data.toList.drop 44 = dktJ16_vectorizedHashCode_2 := dk_seg dksJ16_vectorizedHashCode_1 42 rfl rfl
theorem dksJ16_vectorizedHashCode_3 : cJ16_vectorizedHashCode.data.toList.drop 66 = dktJ16_vectorizedHashCode_3 := dk_seg dksJ16_vectorizedHashCode_2 22 rfl rfl
theorem dksJ16_vectorizedHashCode_4 : cJ16_vectorizedHashCode.data.toList.drop 90 = dktJ16_vectorizedHashCode_4 := dk_seg dksJ16_vectorizedHashCode_3 24 rfl rfl
theorem dksJ16_vectorizedHashCode_5 : cJ16_vectorizedHashCode.data.toList.drop 113 = dktJ16_vectorizedHashCode_5 := dk_seg dksJ16_vectorizedHashCode_4 23 rfl rfl
theorem dksJ16_vectorizedHashCode_6 : cJ16_vectorizedHashCode.data.toList.drop 137 = dktJ16_vectorizedHashCode_6 := dk_seg dksJ16_vectorizedHashCode_5 24 rfl rfl
theorem dJ16_vectorizedHashCode_0 : decode cJ16_vectorizedHashCode 0 = .ok (.iload 4, 2) := dk_21 4 (dk_at dksJ16_vectorizedHashCode_0 0 rfl rfl)
theorem dJ16_vectorizedHashCode_2 : decode cJ16_vectorizedHashCode 2 = .ok (.tableswitch 127 4 10 #[42, 55, 127, 127, 88, 101, 114], 42) := by decide +kernel
theorem dJ16_vectorizedHashCode_44 : decode cJ16_vectorizedHashCode 44 = .ok (.iload_n 3, 1) := dk_29 (dk_at dksJ16_vectorizedHashCode_2 0 rfl rfl)
theorem dJ16_vectorizedHashCode_45 : decode cJ16_vectorizedHashCode 45 = .ok (.aload_n 0, 1) := dk_42 (dk_at dksJ16_vectorizedHashCode_2 1 rfl rfl)
theorem dJ16_vectorizedHashCode_46 : decode cJ16_vectorizedHashCode 46 = .ok (.checkcast 60, 3) := dk_192 0 60 (dk_at dksJ16_vectorizedHashCode_2 2 rfl rfl)
theorem dJ16_vectorizedHashCode_49 : decode cJ16_vectorizedHashCode 49 = .ok (.iload_n 1, 1) := dk_27 (dk_at dksJ16_vectorizedHashCode_2 5 rfl rfl)
theorem dJ16_vectorizedHashCode_50 : decode cJ16_vectorizedHashCode 50 = .ok (.iload_n 2, 1) := dk_28 (dk_at dksJ16_vectorizedHashCode_2 6 rfl rfl)
theorem dJ16_vectorizedHashCode_51 : decode cJ16_vectorizedHashCode 51 = .ok (.invokestatic 62, 3) := dk_184 0 62 (dk_at dksJ16_vectorizedHashCode_2 7 rfl rfl)
theorem dJ16_vectorizedHashCode_54 : decode cJ16_vectorizedHashCode 54 = .ok (.goto 103, 3) := dk_167 0 103 (dk_at dksJ16_vectorizedHashCode_2 10 rfl rfl)
theorem dJ16_vectorizedHashCode_57 : decode cJ16_vectorizedHashCode 57 = .ok (.aload_n 0, 1) := dk_42 (dk_at dksJ16_vectorizedHashCode_2 13 rfl rfl)
theorem dJ16_vectorizedHashCode_58 : decode cJ16_vectorizedHashCode 58 = .ok (.instanceof 60, 3) := dk_193 0 60 (dk_at dksJ16_vectorizedHashCode_2 14 rfl rfl)
theorem dJ16_vectorizedHashCode_61 : decode cJ16_vectorizedHashCode 61 = .ok (.ifCond .eq 16, 3) := dk_153 0 16 (dk_at dksJ16_vectorizedHashCode_2 17 rfl rfl)
theorem dJ16_vectorizedHashCode_64 : decode cJ16_vectorizedHashCode 64 = .ok (.iload_n 3, 1) := dk_29 (dk_at dksJ16_vectorizedHashCode_2 20 rfl rfl)
theorem dJ16_vectorizedHashCode_65 : decode cJ16_vectorizedHashCode 65 = .ok (.aload_n 0, 1) := dk_42 (dk_at dksJ16_vectorizedHashCode_2 21 rfl rfl)
theorem dJ16_vectorizedHashCode_66 : decode cJ16_vectorizedHashCode 66 = .ok (.checkcast 60, 3) := dk_192 0 60 (dk_at dksJ16_vectorizedHashCode_3 0 rfl rfl)
theorem dJ16_vectorizedHashCode_69 : decode cJ16_vectorizedHashCode 69 = .ok (.iload_n 1, 1) := dk_27 (dk_at dksJ16_vectorizedHashCode_3 3 rfl rfl)
theorem dJ16_vectorizedHashCode_70 : decode cJ16_vectorizedHashCode 70 = .ok (.iload_n 2, 1) := dk_28 (dk_at dksJ16_vectorizedHashCode_3 4 rfl rfl)
theorem dJ16_vectorizedHashCode_71 : decode cJ16_vectorizedHashCode 71 = .ok (.invokestatic 66, 3) := dk_184 0 66 (dk_at dksJ16_vectorizedHashCode_3 5 rfl rfl)
theorem dJ16_vectorizedHashCode_74 : decode cJ16_vectorizedHashCode 74 = .ok (.goto 83, 3) := dk_167 0 83 (dk_at dksJ16_vectorizedHashCode_3 8 rfl rfl)
theorem dJ16_vectorizedHashCode_77 : decode cJ16_vectorizedHashCode 77 = .ok (.iload_n 3, 1) := dk_29 (dk_at dksJ16_vectorizedHashCode_3 11 rfl rfl)
theorem dJ16_vectorizedHashCode_78 : decode cJ16_vectorizedHashCode 78 = .ok (.aload_n 0, 1) := dk_42 (dk_at dksJ16_vectorizedHashCode_3 12 rfl rfl)
theorem dJ16_vectorizedHashCode_79 : decode cJ16_vectorizedHashCode 79 = .ok (.checkcast 69, 3) := dk_192 0 69 (dk_at dksJ16_vectorizedHashCode_3 13 rfl rfl)
theorem dJ16_vectorizedHashCode_82 : decode cJ16_vectorizedHashCode 82 = .ok (.iload_n 1, 1) := dk_27 (dk_at dksJ16_vectorizedHashCode_3 16 rfl rfl)
theorem dJ16_vectorizedHashCode_83 : decode cJ16_vectorizedHashCode 83 = .ok (.iload_n 2, 1) := dk_28 (dk_at dksJ16_vectorizedHashCode_3 17 rfl rfl)
theorem dJ16_vectorizedHashCode_84 : decode cJ16_vectorizedHashCode 84 = .ok (.invokestatic 71, 3) := dk_184 0 71 (dk_at dksJ16_vectorizedHashCode_3 18 rfl rfl)
theorem dJ16_vectorizedHashCode_87 : decode cJ16_vectorizedHashCode 87 = .ok (.goto 70, 3) := dk_167 0 70 (dk_at dksJ16_vectorizedHashCode_3 21 rfl rfl)
theorem dJ16_vectorizedHashCode_90 : decode cJ16_vectorizedHashCode 90 = .ok (.iload_n 3, 1) := dk_29 (dk_at dksJ16_vectorizedHashCode_4 0 rfl rfl)
theorem dJ16_vectorizedHashCode_91 : decode cJ16_vectorizedHashCode 91 = .ok (.aload_n 0, 1) := dk_42 (dk_at dksJ16_vectorizedHashCode_4 1 rfl rfl)
theorem dJ16_vectorizedHashCode_92 : decode cJ16_vectorizedHashCode 92 = .ok (.checkcast 60, 3) := dk_192 0 60 (dk_at dksJ16_vectorizedHashCode_4 2 rfl rfl)
theorem dJ16_vectorizedHashCode_95 : decode cJ16_vectorizedHashCode 95 = .ok (.iload_n 1, 1) := dk_27 (dk_at dksJ16_vectorizedHashCode_4 5 rfl rfl)
theorem dJ16_vectorizedHashCode_96 : decode cJ16_vectorizedHashCode 96 = .ok (.iload_n 2, 1) := dk_28 (dk_at dksJ16_vectorizedHashCode_4 6 rfl rfl)
theorem dJ16_vectorizedHashCode_97 : decode cJ16_vectorizedHashCode 97 = .ok (.invokestatic 75, 3) := dk_184 0 75 (dk_at dksJ16_vectorizedHashCode_4 7 rfl rfl)
theorem dJ16_vectorizedHashCode_100 : decode cJ16_vectorizedHashCode 100 = .ok (.goto 57, 3) := dk_167 0 57 (dk_at dksJ16_vectorizedHashCode_4 10 rfl rfl)
theorem dJ16_vectorizedHashCode_103 : decode cJ16_vectorizedHashCode 103 = .ok (.iload_n 3, 1) := dk_29 (dk_at dksJ16_vectorizedHashCode_4 13 rfl rfl)
theorem dJ16_vectorizedHashCode_104 : decode cJ16_vectorizedHashCode 104 = .ok (.aload_n 0, 1) := dk_42 (dk_at dksJ16_vectorizedHashCode_4 14 rfl rfl)
theorem dJ16_vectorizedHashCode_105 : decode cJ16_vectorizedHashCode 105 = .ok (.checkcast 77, 3) := dk_192 0 77 (dk_at dksJ16_vectorizedHashCode_4 15 rfl rfl)
theorem dJ16_vectorizedHashCode_108 : decode cJ16_vectorizedHashCode 108 = .ok (.iload_n 1, 1) := dk_27 (dk_at dksJ16_vectorizedHashCode_4 18 rfl rfl)
theorem dJ16_vectorizedHashCode_109 : decode cJ16_vectorizedHashCode 109 = .ok (.iload_n 2, 1) := dk_28 (dk_at dksJ16_vectorizedHashCode_4 19 rfl rfl)
theorem dJ16_vectorizedHashCode_110 : decode cJ16_vectorizedHashCode 110 = .ok (.invokestatic 79, 3) := dk_184 0 79 (dk_at dksJ16_vectorizedHashCode_4 20 rfl rfl)
theorem dJ16_vectorizedHashCode_113 : decode cJ16_vectorizedHashCode 113 = .ok (.goto 44, 3) := dk_167 0 44 (dk_at dksJ16_vectorizedHashCode_5 0 rfl rfl)
theorem dJ16_vectorizedHashCode_116 : decode cJ16_vectorizedHashCode 116 = .ok (.iload_n 3, 1) := dk_29 (dk_at dksJ16_vectorizedHashCode_5 3 rfl rfl)
theorem dJ16_vectorizedHashCode_117 : decode cJ16_vectorizedHashCode 117 = .ok (.aload_n 0, 1) := dk_42 (dk_at dksJ16_vectorizedHashCode_5 4 rfl rfl)
theorem dJ16_vectorizedHashCode_118 : decode cJ16_vectorizedHashCode 118 = .ok (.checkcast 82, 3) := dk_192 0 82 (dk_at dksJ16_vectorizedHashCode_5 5 rfl rfl)
theorem dJ16_vectorizedHashCode_121 : decode cJ16_vectorizedHashCode 121 = .ok (.iload_n 1, 1) := dk_27 (dk_at dksJ16_vectorizedHashCode_5 8 rfl rfl)
theorem dJ16_vectorizedHashCode_122 : decode cJ16_vectorizedHashCode 122 = .ok (.iload_n 2, 1) := dk_28 (dk_at dksJ16_vectorizedHashCode_5 9 rfl rfl)
theorem dJ16_vectorizedHashCode_123 : decode cJ16_vectorizedHashCode 123 = .ok (.invokestatic 84, 3) := dk_184 0 84 (dk_at dksJ16_vectorizedHashCode_5 10 rfl rfl)
theorem dJ16_vectorizedHashCode_126 : decode cJ16_vectorizedHashCode 126 = .ok (.goto 31, 3) := dk_167 0 31 (dk_at dksJ16_vectorizedHashCode_5 13 rfl rfl)
theorem dJ16_vectorizedHashCode_129 : decode cJ16_vectorizedHashCode 129 = .ok (.new 87, 3) := dk_187 0 87 (dk_at dksJ16_vectorizedHashCode_5 16 rfl rfl)
theorem dJ16_vectorizedHashCode_132 : decode cJ16_vectorizedHashCode 132 = .ok (.dup, 1) := dk_89 (dk_at dksJ16_vectorizedHashCode_5 19 rfl rfl)
theorem dJ16_vectorizedHashCode_133 : decode cJ16_vectorizedHashCode 133 = .ok (.new 89, 3) := dk_187 0 89 (dk_at dksJ16_vectorizedHashCode_5 20 rfl rfl)
theorem dJ16_vectorizedHashCode_136 : decode cJ16_vectorizedHashCode 136 = .ok (.dup, 1) := dk_89 (dk_at dksJ16_vectorizedHashCode_5 23 rfl rfl)
theorem dJ16_vectorizedHashCode_137 : decode cJ16_vectorizedHashCode 137 = .ok (.invokespecial 91, 3) := dk_183 0 91 (dk_at dksJ16_vectorizedHashCode_6 0 rfl rfl)
theorem dJ16_vectorizedHashCode_140 : decode cJ16_vectorizedHashCode 140 = .ok (.ldc 92, 2) := dk_18 92 (dk_at dksJ16_vectorizedHashCode_6 3 rfl rfl)
theorem dJ16_vectorizedHashCode_142 : decode cJ16_vectorizedHashCode 142 = .ok (.invokevirtual 94, 3) := dk_182 0 94 (dk_at dksJ16_vectorizedHashCode_6 5 rfl rfl)
theorem dJ16_vectorizedHashCode_145 : decode cJ16_vectorizedHashCode 145 = .ok (.iload 4, 2) := dk_21 4 (dk_at dksJ16_vectorizedHashCode_6 8 rfl rfl)
theorem dJ16_vectorizedHashCode_147 : decode cJ16_vectorizedHashCode 147 = .ok (.invokevirtual 98, 3) := dk_182 0 98 (dk_at dksJ16_vectorizedHashCode_6 10 rfl rfl)
theorem dJ16_vectorizedHashCode_150 : decode cJ16_vectorizedHashCode 150 = .ok (.invokevirtual 101, 3) := dk_182 0 101 (dk_at dksJ16_vectorizedHashCode_6 13 rfl rfl)
theorem dJ16_vectorizedHashCode_153 : decode cJ16_vectorizedHashCode 153 = .ok (.invokespecial 105, 3) := dk_183 0 105 (dk_at dksJ16_vectorizedHashCode_6 16 rfl rfl)
theorem dJ16_vectorizedHashCode_156 : decode cJ16_vectorizedHashCode 156 = .ok (.athrow, 1) := dk_191 (dk_at dksJ16_vectorizedHashCode_6 19 rfl rfl)
theorem dJ16_vectorizedHashCode_157 : decode cJ16_vectorizedHashCode 157 = .ok (.ireturn, 1) := dk_172 (dk_at dksJ16_vectorizedHashCode_6 20 rfl rfl)
abbrev cJ16_signedHashCode : ByteArray := prog_70_method_5_code
def yJ16_signedHashCode : MethodName := ⟨RJ16, "signedHashCode", "(I[BII)I"⟩
def dkwJ16_signedHashCode_1 : List UInt8 := [17, 0, 255, 126, 96, 59, 132, 5, 1, 167, 255, 232, 26, 172]
abbrev dktJ16_signedHashCode_1 : List UInt8 := dkwJ16_signedHashCode_1 ++ []
def dkwJ16_signedHashCode_0 : List UInt8 := [28, 29, 96, 54, 4, 28, 54, 5, 21, 5, 21, 4, 162, 0, 23, 16, 31, 26, 104, 43, 21, 5, 51]
abbrev dktJ16_signedHashCode_0 : List UInt8 := dkwJ16_signedHashCode_0 ++ dktJ16_signedHashCode_1
theorem dksJ16_signedHashCode_0 : cJ16_signedHashCode.data.toList.drop 0 = dktJ16_signedHashCode_0 := by decide +kernel
theorem dksJ16_signedHashCode_1 : cJ16_signedHashCode.data.toList.drop 23 = dktJ16_signedHashCode_1 := dk_seg dksJ16_signedHashCode_0 23 rfl rfl
theorem dJ16_signedHashCode_0 : decode cJ16_signedHashCode 0 = .ok (.iload_n 2, 1) := dk_28 (dk_at dksJ16_signedHashCode_0 0 rfl rfl)
theorem dJ16_signedHashCode_1 : decode cJ16_signedHashCode 1 = .ok (.iload_n 3, 1) := dk_29 (dk_at dksJ16_signedHashCode_0 1 rfl rfl)
theorem dJ16_signedHashCode_2 : decode cJ16_signedHashCode 2 = .ok (.iadd, 1) := dk_96 (dk_at dksJ16_signedHashCode_0 2 rfl rfl)
theorem dJ16_signedHashCode_3 : decode cJ16_signedHashCode 3 = .ok (.istore 4, 2) := dk_54 4 (dk_at dksJ16_signedHashCode_0 3 rfl rfl)
theorem dJ16_signedHashCode_5 : decode cJ16_signedHashCode 5 = .ok (.iload_n 2, 1) := dk_28 (dk_at dksJ16_signedHashCode_0 5 rfl rfl)
theorem dJ16_signedHashCode_6 : decode cJ16_signedHashCode 6 = .ok (.istore 5, 2) := dk_54 5 (dk_at dksJ16_signedHashCode_0 6 rfl rfl)
theorem dJ16_signedHashCode_8 : decode cJ16_signedHashCode 8 = .ok (.iload 5, 2) := dk_21 5 (dk_at dksJ16_signedHashCode_0 8 rfl rfl)
theorem dJ16_signedHashCode_10 : decode cJ16_signedHashCode 10 = .ok (.iload 4, 2) := dk_21 4 (dk_at dksJ16_signedHashCode_0 10 rfl rfl)
theorem dJ16_signedHashCode_12 : decode cJ16_signedHashCode 12 = .ok (.if_icmp .ge 23, 3) := dk_162 0 23 (dk_at dksJ16_signedHashCode_0 12 rfl rfl)
theorem dJ16_signedHashCode_15 : decode cJ16_signedHashCode 15 = .ok (.bipush 31, 2) := dk_16 31 (dk_at dksJ16_signedHashCode_0 15 rfl rfl)
theorem dJ16_signedHashCode_17 : decode cJ16_signedHashCode 17 = .ok (.iload_n 0, 1) := dk_26 (dk_at dksJ16_signedHashCode_0 17 rfl rfl)
theorem dJ16_signedHashCode_18 : decode cJ16_signedHashCode 18 = .ok (.imul, 1) := dk_104 (dk_at dksJ16_signedHashCode_0 18 rfl rfl)
theorem dJ16_signedHashCode_19 : decode cJ16_signedHashCode 19 = .ok (.aload_n 1, 1) := dk_43 (dk_at dksJ16_signedHashCode_0 19 rfl rfl)
theorem dJ16_signedHashCode_20 : decode cJ16_signedHashCode 20 = .ok (.iload 5, 2) := dk_21 5 (dk_at dksJ16_signedHashCode_0 20 rfl rfl)
theorem dJ16_signedHashCode_22 : decode cJ16_signedHashCode 22 = .ok (.baload, 1) := dk_51 (dk_at dksJ16_signedHashCode_0 22 rfl rfl)
theorem dJ16_signedHashCode_23 : decode cJ16_signedHashCode 23 = .ok (.sipush 255, 3) := dk_17 0 255 (dk_at dksJ16_signedHashCode_1 0 rfl rfl)
theorem dJ16_signedHashCode_26 : decode cJ16_signedHashCode 26 = .ok (.iand, 1) := dk_126 (dk_at dksJ16_signedHashCode_1 3 rfl rfl)
theorem dJ16_signedHashCode_27 : decode cJ16_signedHashCode 27 = .ok (.iadd, 1) := dk_96 (dk_at dksJ16_signedHashCode_1 4 rfl rfl)
theorem dJ16_signedHashCode_28 : decode cJ16_signedHashCode 28 = .ok (.istore_n 0, 1) := dk_59 (dk_at dksJ16_signedHashCode_1 5 rfl rfl)
theorem dJ16_signedHashCode_29 : decode cJ16_signedHashCode 29 = .ok (.iinc 5 1, 3) := dk_132 5 1 (dk_at dksJ16_signedHashCode_1 6 rfl rfl)
theorem dJ16_signedHashCode_32 : decode cJ16_signedHashCode 32 = .ok (.goto (-24), 3) := dk_167 255 232 (dk_at dksJ16_signedHashCode_1 9 rfl rfl)
theorem dJ16_signedHashCode_35 : decode cJ16_signedHashCode 35 = .ok (.iload_n 0, 1) := dk_26 (dk_at dksJ16_signedHashCode_1 12 rfl rfl)
theorem dJ16_signedHashCode_36 : decode cJ16_signedHashCode 36 = .ok (.ireturn, 1) := dk_172 (dk_at dksJ16_signedHashCode_1 13 rfl rfl)
abbrev cJ16_utf16hashCode : ByteArray := prog_70_method_10_code
def yJ16_utf16hashCode : MethodName := ⟨RJ16, "utf16hashCode", "(I[BII)I"⟩
def dkwJ16_utf16hashCode_1 : List UInt8 := [21, 5, 185, 0, 110, 3, 0, 96, 59, 132, 5, 1, 167, 255, 229, 26, 172]
abbrev dktJ16_utf16hashCode_1 : List UInt8 := dkwJ16_utf16hashCode_1 ++ []
def dkwJ16_utf16hashCode_0 : List UInt8 := [28, 29, 96, 54, 4, 28, 54, 5, 21, 5, 21, 4, 162, 0, 26, 16, 31, 26, 104, 178, 0, 106, 43]
abbrev dktJ16_utf16hashCode_0 : List UInt8 := dkwJ16_utf16hashCode_0 ++ dktJ16_utf16hashCode_1
theorem dksJ16_utf16hashCode_0 : cJ16_utf16hashCode.data.toList.drop 0 = dktJ16_utf16hashCode_0 := by decide +kernel
theorem dksJ16_utf16hashCode_1 : cJ16_utf16hashCode.data.toList.drop 23 = dktJ16_utf16hashCode_1 := dk_seg dksJ16_utf16hashCode_0 23 rfl rfl
theorem dJ16_utf16hashCode_0 : decode cJ16_utf16hashCode 0 = .ok (.iload_n 2, 1) := dk_28 (dk_at dksJ16_utf16hashCode_0 0 rfl rfl)
theorem dJ16_utf16hashCode_1 : decode cJ16_utf16hashCode 1 = .ok (.iload_n 3, 1) := dk_29 (dk_at dksJ16_utf16hashCode_0 1 rfl rfl)
theorem dJ16_utf16hashCode_2 : decode cJ16_utf16hashCode 2 = .ok (.iadd, 1) := dk_96 (dk_at dksJ16_utf16hashCode_0 2 rfl rfl)
theorem dJ16_utf16hashCode_3 : decode cJ16_utf16hashCode 3 = .ok (.istore 4, 2) := dk_54 4 (dk_at dksJ16_utf16hashCode_0 3 rfl rfl)
theorem dJ16_utf16hashCode_5 : decode cJ16_utf16hashCode 5 = .ok (.iload_n 2, 1) := dk_28 (dk_at dksJ16_utf16hashCode_0 5 rfl rfl)
theorem dJ16_utf16hashCode_6 : decode cJ16_utf16hashCode 6 = .ok (.istore 5, 2) := dk_54 5 (dk_at dksJ16_utf16hashCode_0 6 rfl rfl)
theorem dJ16_utf16hashCode_8 : decode cJ16_utf16hashCode 8 = .ok (.iload 5, 2) := dk_21 5 (dk_at dksJ16_utf16hashCode_0 8 rfl rfl)
theorem dJ16_utf16hashCode_10 : decode cJ16_utf16hashCode 10 = .ok (.iload 4, 2) := dk_21 4 (dk_at dksJ16_utf16hashCode_0 10 rfl rfl)
theorem dJ16_utf16hashCode_12 : decode cJ16_utf16hashCode 12 = .ok (.if_icmp .ge 26, 3) := dk_162 0 26 (dk_at dksJ16_utf16hashCode_0 12 rfl rfl)
theorem dJ16_utf16hashCode_15 : decode cJ16_utf16hashCode 15 = .ok (.bipush 31, 2) := dk_16 31 (dk_at dksJ16_utf16hashCode_0 15 rfl rfl)
theorem dJ16_utf16hashCode_17 : decode cJ16_utf16hashCode 17 = .ok (.iload_n 0, 1) := dk_26 (dk_at dksJ16_utf16hashCode_0 17 rfl rfl)
theorem dJ16_utf16hashCode_18 : decode cJ16_utf16hashCode 18 = .ok (.imul, 1) := dk_104 (dk_at dksJ16_utf16hashCode_0 18 rfl rfl)
theorem dJ16_utf16hashCode_19 : decode cJ16_utf16hashCode 19 = .ok (.getstatic 106, 3) := dk_178 0 106 (dk_at dksJ16_utf16hashCode_0 19 rfl rfl)
theorem dJ16_utf16hashCode_22 : decode cJ16_utf16hashCode 22 = .ok (.aload_n 1, 1) := dk_43 (dk_at dksJ16_utf16hashCode_0 22 rfl rfl)
theorem dJ16_utf16hashCode_23 : decode cJ16_utf16hashCode 23 = .ok (.iload 5, 2) := dk_21 5 (dk_at dksJ16_utf16hashCode_1 0 rfl rfl)
theorem dJ16_utf16hashCode_25 : decode cJ16_utf16hashCode 25 = .ok (.invokeinterface 110 3, 5) := by decide +kernel
theorem dJ16_utf16hashCode_30 : decode cJ16_utf16hashCode 30 = .ok (.iadd, 1) := dk_96 (dk_at dksJ16_utf16hashCode_1 7 rfl rfl)
theorem dJ16_utf16hashCode_31 : decode cJ16_utf16hashCode 31 = .ok (.istore_n 0, 1) := dk_59 (dk_at dksJ16_utf16hashCode_1 8 rfl rfl)
theorem dJ16_utf16hashCode_32 : decode cJ16_utf16hashCode 32 = .ok (.iinc 5 1, 3) := dk_132 5 1 (dk_at dksJ16_utf16hashCode_1 9 rfl rfl)
theorem dJ16_utf16hashCode_35 : decode cJ16_utf16hashCode 35 = .ok (.goto (-27), 3) := dk_167 255 229 (dk_at dksJ16_utf16hashCode_1 12 rfl rfl)
theorem dJ16_utf16hashCode_38 : decode cJ16_utf16hashCode 38 = .ok (.iload_n 0, 1) := dk_26 (dk_at dksJ16_utf16hashCode_1 15 rfl rfl)
theorem dJ16_utf16hashCode_39 : decode cJ16_utf16hashCode 39 = .ok (.ireturn, 1) := dk_172 (dk_at dksJ16_utf16hashCode_1 16 rfl rfl)
abbrev cJ16_hashCode : ByteArray := prog_70_method_7_code
def yJ16_hashCode : MethodName := ⟨RJ16, "hashCode", "(I[CII)I"⟩
def dkwJ16_hashCode_1 : List UInt8 := [59, 132, 5, 1, 167, 255, 236, 26, 172]
abbrev dktJ16_hashCode_1 : List UInt8 := dkwJ16_hashCode_1 ++ []
def dkwJ16_hashCode_0 : List UInt8 := [28, 29, 96, 54, 4, 28, 54, 5, 21, 5, 21, 4, 162, 0, 19, 16, 31, 26, 104, 43, 21, 5, 52, 96]
abbrev dktJ16_hashCode_0 : List UInt8 := dkwJ16_hashCode_0 ++ dktJ16_hashCode_1
theorem dksJ16_hashCode_0 : cJ16_hashCode.data.toList.drop 0 = dktJ16_hashCode_0 := by decide +kernel
theorem dksJ16_hashCode_1 : cJ16_hashCode.data.toList.drop 24 = dktJ16_hashCode_1 := dk_seg dksJ16_hashCode_0 24 rfl rfl
theorem dJ16_hashCode_0 : decode cJ16_hashCode 0 = .ok (.iload_n 2, 1) := dk_28 (dk_at dksJ16_hashCode_0 0 rfl rfl)
theorem dJ16_hashCode_1 : decode cJ16_hashCode 1 = .ok (.iload_n 3, 1) := dk_29 (dk_at dksJ16_hashCode_0 1 rfl rfl)
theorem dJ16_hashCode_2 : decode cJ16_hashCode 2 = .ok (.iadd, 1) := dk_96 (dk_at dksJ16_hashCode_0 2 rfl rfl)
theorem dJ16_hashCode_3 : decode cJ16_hashCode 3 = .ok (.istore 4, 2) := dk_54 4 (dk_at dksJ16_hashCode_0 3 rfl rfl)
theorem dJ16_hashCode_5 : decode cJ16_hashCode 5 = .ok (.iload_n 2, 1) := dk_28 (dk_at dksJ16_hashCode_0 5 rfl rfl)
theorem dJ16_hashCode_6 : decode cJ16_hashCode 6 = .ok (.istore 5, 2) := dk_54 5 (dk_at dksJ16_hashCode_0 6 rfl rfl)
theorem dJ16_hashCode_8 : decode cJ16_hashCode 8 = .ok (.iload 5, 2) := dk_21 5 (dk_at dksJ16_hashCode_0 8 rfl rfl)
theorem dJ16_hashCode_10 : decode cJ16_hashCode 10 = .ok (.iload 4, 2) := dk_21 4 (dk_at dksJ16_hashCode_0 10 rfl rfl)
theorem dJ16_hashCode_12 : decode cJ16_hashCode 12 = .ok (.if_icmp .ge 19, 3) := dk_162 0 19 (dk_at dksJ16_hashCode_0 12 rfl rfl)
theorem dJ16_hashCode_15 : decode cJ16_hashCode 15 = .ok (.bipush 31, 2) := dk_16 31 (dk_at dksJ16_hashCode_0 15 rfl rfl)
theorem dJ16_hashCode_17 : decode cJ16_hashCode 17 = .ok (.iload_n 0, 1) := dk_26 (dk_at dksJ16_hashCode_0 17 rfl rfl)
theorem dJ16_hashCode_18 : decode cJ16_hashCode 18 = .ok (.imul, 1) := dk_104 (dk_at dksJ16_hashCode_0 18 rfl rfl)
theorem dJ16_hashCode_19 : decode cJ16_hashCode 19 = .ok (.aload_n 1, 1) := dk_43 (dk_at dksJ16_hashCode_0 19 rfl rfl)
theorem dJ16_hashCode_20 : decode cJ16_hashCode 20 = .ok (.iload 5, 2) := dk_21 5 (dk_at dksJ16_hashCode_0 20 rfl rfl)
theorem dJ16_hashCode_22 : decode cJ16_hashCode 22 = .ok (.caload, 1) := dk_52 (dk_at dksJ16_hashCode_0 22 rfl rfl)
theorem dJ16_hashCode_23 : decode cJ16_hashCode 23 = .ok (.iadd, 1) := dk_96 (dk_at dksJ16_hashCode_0 23 rfl rfl)
theorem dJ16_hashCode_24 : decode cJ16_hashCode 24 = .ok (.istore_n 0, 1) := dk_59 (dk_at dksJ16_hashCode_1 0 rfl rfl)
theorem dJ16_hashCode_25 : decode cJ16_hashCode 25 = .ok (.iinc 5 1, 3) := dk_132 5 1 (dk_at dksJ16_hashCode_1 1 rfl rfl)
theorem dJ16_hashCode_28 : decode cJ16_hashCode 28 = .ok (.goto (-20), 3) := dk_167 255 236 (dk_at dksJ16_hashCode_1 4 rfl rfl)
theorem dJ16_hashCode_31 : decode cJ16_hashCode 31 = .ok (.iload_n 0, 1) := dk_26 (dk_at dksJ16_hashCode_1 7 rfl rfl)
theorem dJ16_hashCode_32 : decode cJ16_hashCode 32 = .ok (.ireturn, 1) := dk_172 (dk_at dksJ16_hashCode_1 8 rfl rfl)
abbrev cJ16_hashCode_2 : ByteArray := prog_70_method_6_code
def yJ16_hashCode_2 : MethodName := ⟨RJ16, "hashCode", "(I[BII)I"⟩
def dkwJ16_hashCode_2_1 : List UInt8 := [59, 132, 5, 1, 167, 255, 236, 26, 172]
abbrev dktJ16_hashCode_2_1 : List UInt8 := dkwJ16_hashCode_2_1 ++ []
def dkwJ16_hashCode_2_0 : List UInt8 := [28, 29, 96, 54, 4, 28, 54, 5, 21, 5, 21, 4, 162, 0, 19, 16, 31, 26, 104, 43, 21, 5, 51, 96]
abbrev dktJ16_hashCode_2_0 : List UInt8 := dkwJ16_hashCode_2_0 ++ dktJ16_hashCode_2_1
theorem dksJ16_hashCode_2_0 : cJ16_hashCode_2.data.toList.drop 0 = dktJ16_hashCode_2_0 := by decide +kernel
theorem dksJ16_hashCode_2_1 : cJ16_hashCode_2.data.toList.drop 24 = dktJ16_hashCode_2_1 := dk_seg dksJ16_hashCode_2_0 24 rfl rfl
theorem dJ16_hashCode_2_0 : decode cJ16_hashCode_2 0 = .ok (.iload_n 2, 1) := dk_28 (dk_at dksJ16_hashCode_2_0 0 rfl rfl)
theorem dJ16_hashCode_2_1 : decode cJ16_hashCode_2 1 = .ok (.iload_n 3, 1) := dk_29 (dk_at dksJ16_hashCode_2_0 1 rfl rfl)
theorem dJ16_hashCode_2_2 : decode cJ16_hashCode_2 2 = .ok (.iadd, 1) := dk_96 (dk_at dksJ16_hashCode_2_0 2 rfl rfl)
theorem dJ16_hashCode_2_3 : decode cJ16_hashCode_2 3 = .ok (.istore 4, 2) := dk_54 4 (dk_at dksJ16_hashCode_2_0 3 rfl rfl)
theorem dJ16_hashCode_2_5 : decode cJ16_hashCode_2 5 = .ok (.iload_n 2, 1) := dk_28 (dk_at dksJ16_hashCode_2_0 5 rfl rfl)
theorem dJ16_hashCode_2_6 : decode cJ16_hashCode_2 6 = .ok (.istore 5, 2) := dk_54 5 (dk_at dksJ16_hashCode_2_0 6 rfl rfl)
theorem dJ16_hashCode_2_8 : decode cJ16_hashCode_2 8 = .ok (.iload 5, 2) := dk_21 5 (dk_at dksJ16_hashCode_2_0 8 rfl rfl)
theorem dJ16_hashCode_2_10 : decode cJ16_hashCode_2 10 = .ok (.iload 4, 2) := dk_21 4 (dk_at dksJ16_hashCode_2_0 10 rfl rfl)
theorem dJ16_hashCode_2_12 : decode cJ16_hashCode_2 12 = .ok (.if_icmp .ge 19, 3) := dk_162 0 19 (dk_at dksJ16_hashCode_2_0 12 rfl rfl)
theorem dJ16_hashCode_2_15 : decode cJ16_hashCode_2 15 = .ok (.bipush 31, 2) := dk_16 31 (dk_at dksJ16_hashCode_2_0 15 rfl rfl)
theorem dJ16_hashCode_2_17 : decode cJ16_hashCode_2 17 = .ok (.iload_n 0, 1) := dk_26 (dk_at dksJ16_hashCode_2_0 17 rfl rfl)
theorem dJ16_hashCode_2_18 : decode cJ16_hashCode_2 18 = .ok (.imul, 1) := dk_104 (dk_at dksJ16_hashCode_2_0 18 rfl rfl)
theorem dJ16_hashCode_2_19 : decode cJ16_hashCode_2 19 = .ok (.aload_n 1, 1) := dk_43 (dk_at dksJ16_hashCode_2_0 19 rfl rfl)
theorem dJ16_hashCode_2_20 : decode cJ16_hashCode_2 20 = .ok (.iload 5, 2) := dk_21 5 (dk_at dksJ16_hashCode_2_0 20 rfl rfl)
theorem dJ16_hashCode_2_22 : decode cJ16_hashCode_2 22 = .ok (.baload, 1) := dk_51 (dk_at dksJ16_hashCode_2_0 22 rfl rfl)
theorem dJ16_hashCode_2_23 : decode cJ16_hashCode_2 23 = .ok (.iadd, 1) := dk_96 (dk_at dksJ16_hashCode_2_0 23 rfl rfl)
theorem dJ16_hashCode_2_24 : decode cJ16_hashCode_2 24 = .ok (.istore_n 0, 1) := dk_59 (dk_at dksJ16_hashCode_2_1 0 rfl rfl)
theorem dJ16_hashCode_2_25 : decode cJ16_hashCode_2 25 = .ok (.iinc 5 1, 3) := dk_132 5 1 (dk_at dksJ16_hashCode_2_1 1 rfl rfl)
theorem dJ16_hashCode_2_28 : decode cJ16_hashCode_2 28 = .ok (.goto (-20), 3) := dk_167 255 236 (dk_at dksJ16_hashCode_2_1 4 rfl rfl)
theorem dJ16_hashCode_2_31 : decode cJ16_hashCode_2 31 = .ok (.iload_n 0, 1) := dk_26 (dk_at dksJ16_hashCode_2_1 7 rfl rfl)
theorem dJ16_hashCode_2_32 : decode cJ16_hashCode_2 32 = .ok (.ireturn, 1) := dk_172 (dk_at dksJ16_hashCode_2_1 8 rfl rfl)
abbrev cJ16_hashCode_3 : ByteArray := prog_70_method_8_code
def yJ16_hashCode_3 : MethodName := ⟨RJ16, "hashCode", "(I[SII)I"⟩
def dkwJ16_hashCode_3_1 : List UInt8 := [59, 132, 5, 1, 167, 255, 236, 26, 172]
abbrev dktJ16_hashCode_3_1 : List UInt8 := dkwJ16_hashCode_3_1 ++ []
def dkwJ16_hashCode_3_0 : List UInt8 := [28, 29, 96, 54, 4, 28, 54, 5, 21, 5, 21, 4, 162, 0, 19, 16, 31, 26, 104, 43, 21, 5, 53, 96]
abbrev dktJ16_hashCode_3_0 : List UInt8 := dkwJ16_hashCode_3_0 ++ dktJ16_hashCode_3_1
theorem dksJ16_hashCode_3_0 : cJ16_hashCode_3.data.toList.drop 0 = dktJ16_hashCode_3_0 := by decide +kernel
theorem dksJ16_hashCode_3_1 : cJ16_hashCode_3.data.toList.drop 24 = dktJ16_hashCode_3_1 := dk_seg dksJ16_hashCode_3_0 24 rfl rfl
theorem dJ16_hashCode_3_0 : decode cJ16_hashCode_3 0 = .ok (.iload_n 2, 1) := dk_28 (dk_at dksJ16_hashCode_3_0 0 rfl rfl)
theorem dJ16_hashCode_3_1 : decode cJ16_hashCode_3 1 = .ok (.iload_n 3, 1) := dk_29 (dk_at dksJ16_hashCode_3_0 1 rfl rfl)
theorem dJ16_hashCode_3_2 : decode cJ16_hashCode_3 2 = .ok (.iadd, 1) := dk_96 (dk_at dksJ16_hashCode_3_0 2 rfl rfl)
theorem dJ16_hashCode_3_3 : decode cJ16_hashCode_3 3 = .ok (.istore 4, 2) := dk_54 4 (dk_at dksJ16_hashCode_3_0 3 rfl rfl)
theorem dJ16_hashCode_3_5 : decode cJ16_hashCode_3 5 = .ok (.iload_n 2, 1) := dk_28 (dk_at dksJ16_hashCode_3_0 5 rfl rfl)
theorem dJ16_hashCode_3_6 : decode cJ16_hashCode_3 6 = .ok (.istore 5, 2) := dk_54 5 (dk_at dksJ16_hashCode_3_0 6 rfl rfl)
theorem dJ16_hashCode_3_8 : decode cJ16_hashCode_3 8 = .ok (.iload 5, 2) := dk_21 5 (dk_at dksJ16_hashCode_3_0 8 rfl rfl)
theorem dJ16_hashCode_3_10 : decode cJ16_hashCode_3 10 = .ok (.iload 4, 2) := dk_21 4 (dk_at dksJ16_hashCode_3_0 10 rfl rfl)
theorem dJ16_hashCode_3_12 : decode cJ16_hashCode_3 12 = .ok (.if_icmp .ge 19, 3) := dk_162 0 19 (dk_at dksJ16_hashCode_3_0 12 rfl rfl)
theorem dJ16_hashCode_3_15 : decode cJ16_hashCode_3 15 = .ok (.bipush 31, 2) := dk_16 31 (dk_at dksJ16_hashCode_3_0 15 rfl rfl)
theorem dJ16_hashCode_3_17 : decode cJ16_hashCode_3 17 = .ok (.iload_n 0, 1) := dk_26 (dk_at dksJ16_hashCode_3_0 17 rfl rfl)
theorem dJ16_hashCode_3_18 : decode cJ16_hashCode_3 18 = .ok (.imul, 1) := dk_104 (dk_at dksJ16_hashCode_3_0 18 rfl rfl)
theorem dJ16_hashCode_3_19 : decode cJ16_hashCode_3 19 = .ok (.aload_n 1, 1) := dk_43 (dk_at dksJ16_hashCode_3_0 19 rfl rfl)
theorem dJ16_hashCode_3_20 : decode cJ16_hashCode_3 20 = .ok (.iload 5, 2) := dk_21 5 (dk_at dksJ16_hashCode_3_0 20 rfl rfl)
theorem dJ16_hashCode_3_22 : decode cJ16_hashCode_3 22 = .ok (.saload, 1) := dk_53 (dk_at dksJ16_hashCode_3_0 22 rfl rfl)
theorem dJ16_hashCode_3_23 : decode cJ16_hashCode_3 23 = .ok (.iadd, 1) := dk_96 (dk_at dksJ16_hashCode_3_0 23 rfl rfl)
theorem dJ16_hashCode_3_24 : decode cJ16_hashCode_3 24 = .ok (.istore_n 0, 1) := dk_59 (dk_at dksJ16_hashCode_3_1 0 rfl rfl)
theorem dJ16_hashCode_3_25 : decode cJ16_hashCode_3 25 = .ok (.iinc 5 1, 3) := dk_132 5 1 (dk_at dksJ16_hashCode_3_1 1 rfl rfl)
theorem dJ16_hashCode_3_28 : decode cJ16_hashCode_3 28 = .ok (.goto (-20), 3) := dk_167 255 236 (dk_at dksJ16_hashCode_3_1 4 rfl rfl)
theorem dJ16_hashCode_3_31 : decode cJ16_hashCode_3 31 = .ok (.iload_n 0, 1) := dk_26 (dk_at dksJ16_hashCode_3_1 7 rfl rfl)
theorem dJ16_hashCode_3_32 : decode cJ16_hashCode_3 32 = .ok (.ireturn, 1) := dk_172 (dk_at dksJ16_hashCode_3_1 8 rfl rfl)
abbrev cJ16_hashCode_4 : ByteArray := prog_70_method_9_code
def yJ16_hashCode_4 : MethodName := ⟨RJ16, "hashCode", "(I[III)I"⟩
def dkwJ16_hashCode_4_1 : List UInt8 := [59, 132, 5, 1, 167, 255, 236, 26, 172]
abbrev dktJ16_hashCode_4_1 : List UInt8 := dkwJ16_hashCode_4_1 ++ []
def dkwJ16_hashCode_4_0 : List UInt8 := [28, 29, 96, 54, 4, 28, 54, 5, 21, 5, 21, 4, 162, 0, 19, 16, 31, 26, 104, 43, 21, 5, 46, 96]
abbrev dktJ16_hashCode_4_0 : List UInt8 := dkwJ16_hashCode_4_0 ++ dktJ16_hashCode_4_1
theorem dksJ16_hashCode_4_0 : cJ16_hashCode_4.data.toList.drop 0 = dktJ16_hashCode_4_0 := by decide +kernel
theorem dksJ16_hashCode_4_1 : cJ16_hashCode_4.data.toList.drop 24 = dktJ16_hashCode_4_1 := dk_seg dksJ16_hashCode_4_0 24 rfl rfl
theorem dJ16_hashCode_4_0 : decode cJ16_hashCode_4 0 = .ok (.iload_n 2, 1) := dk_28 (dk_at dksJ16_hashCode_4_0 0 rfl rfl)
theorem dJ16_hashCode_4_1 : decode cJ16_hashCode_4 1 = .ok (.iload_n 3, 1) := dk_29 (dk_at dksJ16_hashCode_4_0 1 rfl rfl)
theorem dJ16_hashCode_4_2 : decode cJ16_hashCode_4 2 = .ok (.iadd, 1) := dk_96 (dk_at dksJ16_hashCode_4_0 2 rfl rfl)
theorem dJ16_hashCode_4_3 : decode cJ16_hashCode_4 3 = .ok (.istore 4, 2) := dk_54 4 (dk_at dksJ16_hashCode_4_0 3 rfl rfl)
theorem dJ16_hashCode_4_5 : decode cJ16_hashCode_4 5 = .ok (.iload_n 2, 1) := dk_28 (dk_at dksJ16_hashCode_4_0 5 rfl rfl)
theorem dJ16_hashCode_4_6 : decode cJ16_hashCode_4 6 = .ok (.istore 5, 2) := dk_54 5 (dk_at dksJ16_hashCode_4_0 6 rfl rfl)
theorem dJ16_hashCode_4_8 : decode cJ16_hashCode_4 8 = .ok (.iload 5, 2) := dk_21 5 (dk_at dksJ16_hashCode_4_0 8 rfl rfl)
theorem dJ16_hashCode_4_10 : decode cJ16_hashCode_4 10 = .ok (.iload 4, 2) := dk_21 4 (dk_at dksJ16_hashCode_4_0 10 rfl rfl)
theorem dJ16_hashCode_4_12 : decode cJ16_hashCode_4 12 = .ok (.if_icmp .ge 19, 3) := dk_162 0 19 (dk_at dksJ16_hashCode_4_0 12 rfl rfl)
theorem dJ16_hashCode_4_15 : decode cJ16_hashCode_4 15 = .ok (.bipush 31, 2) := dk_16 31 (dk_at dksJ16_hashCode_4_0 15 rfl rfl)
theorem dJ16_hashCode_4_17 : decode cJ16_hashCode_4 17 = .ok (.iload_n 0, 1) := dk_26 (dk_at dksJ16_hashCode_4_0 17 rfl rfl)
theorem dJ16_hashCode_4_18 : decode cJ16_hashCode_4 18 = .ok (.imul, 1) := dk_104 (dk_at dksJ16_hashCode_4_0 18 rfl rfl)
theorem dJ16_hashCode_4_19 : decode cJ16_hashCode_4 19 = .ok (.aload_n 1, 1) := dk_43 (dk_at dksJ16_hashCode_4_0 19 rfl rfl)
theorem dJ16_hashCode_4_20 : decode cJ16_hashCode_4 20 = .ok (.iload 5, 2) := dk_21 5 (dk_at dksJ16_hashCode_4_0 20 rfl rfl)
theorem dJ16_hashCode_4_22 : decode cJ16_hashCode_4 22 = .ok (.iaload, 1) := dk_46 (dk_at dksJ16_hashCode_4_0 22 rfl rfl)
theorem dJ16_hashCode_4_23 : decode cJ16_hashCode_4 23 = .ok (.iadd, 1) := dk_96 (dk_at dksJ16_hashCode_4_0 23 rfl rfl)
theorem dJ16_hashCode_4_24 : decode cJ16_hashCode_4 24 = .ok (.istore_n 0, 1) := dk_59 (dk_at dksJ16_hashCode_4_1 0 rfl rfl)
theorem dJ16_hashCode_4_25 : decode cJ16_hashCode_4 25 = .ok (.iinc 5 1, 3) := dk_132 5 1 (dk_at dksJ16_hashCode_4_1 1 rfl rfl)
theorem dJ16_hashCode_4_28 : decode cJ16_hashCode_4 28 = .ok (.goto (-20), 3) := dk_167 255 236 (dk_at dksJ16_hashCode_4_1 4 rfl rfl)
theorem dJ16_hashCode_4_31 : decode cJ16_hashCode_4 31 = .ok (.iload_n 0, 1) := dk_26 (dk_at dksJ16_hashCode_4_1 7 rfl rfl)
theorem dJ16_hashCode_4_32 : decode cJ16_hashCode_4 32 = .ok (.ireturn, 1) := dk_172 (dk_at dksJ16_hashCode_4_1 8 rfl rfl)
theorem q137 : (Jvm.Cond.initialized "jdk/internal/util/ArraysSupport") ∈ lw_all := lw_g (lw_at lw_m1 22 rfl) rfl
theorem q822 : (Jvm.Cond.static ({ cls := "jdk/internal/util/ArraysSupport", name := "newLength", desc := "(III)I" } : Jvm.MethodName)) ∈ lw_all := lw_g (lw_at lw_m3 227 rfl) rfl
theorem q823 : (Jvm.Cond.code ({ cls := "jdk/internal/util/ArraysSupport", name := "newLength", desc := "(III)I" } : Jvm.MethodName) prog_70_method_27_code (4 : Nat) (Option.some Jvm.ClassFile.FieldType.int)) ∈ lw_all := lw_g (lw_at lw_m3 228 rfl) rfl
theorem q824 : (Jvm.Cond.methodLink "jdk/internal/util/ArraysSupport" (194 : Nat) ({ cls := "java/lang/Math", name := "max", desc := "(II)I" } : Jvm.MethodName)) ∈ lw_all := lw_g (lw_at lw_m3 229 rfl) rfl
theorem q825 : (Jvm.Cond.constant "jdk/internal/util/ArraysSupport" (200 : Nat) (2147483639 : Int32)) ∈ lw_all := lw_g (lw_at lw_m3 230 rfl) rfl
theorem q826 : (Jvm.Cond.methodLink "jdk/internal/util/ArraysSupport" (201 : Nat) ({ cls := "jdk/internal/util/ArraysSupport", name := "hugeLength", desc := "(II)I" } : Jvm.MethodName)) ∈ lw_all := lw_g (lw_at lw_m3 231 rfl) rfl
theorem q827 : (Jvm.Cond.static ({ cls := "jdk/internal/util/ArraysSupport", name := "hugeLength", desc := "(II)I" } : Jvm.MethodName)) ∈ lw_all := lw_g (lw_at lw_m3 232 rfl) rfl
theorem q828 : (Jvm.Cond.code ({ cls := "jdk/internal/util/ArraysSupport", name := "hugeLength", desc := "(II)I" } : Jvm.MethodName) prog_70_method_28_code (3 : Nat) (Option.some Jvm.ClassFile.FieldType.int)) ∈ lw_all := lw_g (lw_at lw_m3 233 rfl) rfl
theorem q1081 : (Jvm.Cond.static ({ cls := "jdk/internal/util/ArraysSupport", name := "vectorizedHashCode", desc := "(Ljava/lang/Object;IIII)I" } : Jvm.MethodName)) ∈ lw_all := lw_g (lw_at lw_m5 6 rfl) rfl
theorem q1082 : (Jvm.Cond.code ({ cls := "jdk/internal/util/ArraysSupport", name := "vectorizedHashCode", desc := "(Ljava/lang/Object;IIII)I" } : Jvm.MethodName) prog_70_method_4_code (5 : Nat) (Option.some Jvm.ClassFile.FieldType.int)) ∈ lw_all := lw_g (lw_at lw_m5 7 rfl) rfl
theorem q1083 : (Jvm.Cond.classLink "jdk/internal/util/ArraysSupport" (60 : Nat) "[B") ∈ lw_all := lw_g (lw_at lw_m5 8 rfl) rfl
theorem q1084 : (Jvm.Cond.methodLink "jdk/internal/util/ArraysSupport" (62 : Nat) ({ cls := "jdk/internal/util/ArraysSupport", name := "signedHashCode", desc := "(I[BII)I" } : Jvm.MethodName)) ∈ lw_all := lw_g (lw_at lw_m5 9 rfl) rfl
theorem q1085 : (Jvm.Cond.static ({ cls := "jdk/internal/util/ArraysSupport", name := "signedHashCode", desc := "(I[BII)I" } : Jvm.MethodName)) ∈ lw_all := lw_g (lw_at lw_m5 10 rfl) rfl
theorem q1086 : (Jvm.Cond.code ({ cls := "jdk/internal/util/ArraysSupport", name := "signedHashCode", desc := "(I[BII)I" } : Jvm.MethodName) prog_70_method_5_code (6 : Nat) (Option.some Jvm.ClassFile.FieldType.int)) ∈ lw_all := lw_g (lw_at lw_m5 11 rfl) rfl
theorem q1087 : (Jvm.Cond.methodLink "jdk/internal/util/ArraysSupport" (66 : Nat) ({ cls := "jdk/internal/util/ArraysSupport", name := "utf16hashCode", desc := "(I[BII)I" } : Jvm.MethodName)) ∈ lw_all := lw_g (lw_at lw_m5 12 rfl) rfl
theorem q1088 : (Jvm.Cond.static ({ cls := "jdk/internal/util/ArraysSupport", name := "utf16hashCode", desc := "(I[BII)I" } : Jvm.MethodName)) ∈ lw_all := lw_g (lw_at lw_m5 13 rfl) rfl
theorem q1089 : (Jvm.Cond.code ({ cls := "jdk/internal/util/ArraysSupport", name := "utf16hashCode", desc := "(I[BII)I" } : Jvm.MethodName) prog_70_method_10_code (6 : Nat) (Option.some Jvm.ClassFile.FieldType.int)) ∈ lw_all := lw_g (lw_at lw_m5 14 rfl) rfl
theorem q1090 : (Jvm.Cond.fieldLink "jdk/internal/util/ArraysSupport" (106 : Nat) "jdk/internal/util/ArraysSupport" "JLA" "Ljdk/internal/access/JavaLangAccess;") ∈ lw_all := lw_g (lw_at lw_m5 15 rfl) rfl
theorem q1091 : (Jvm.Cond.laysStatic "jdk/internal/util/ArraysSupport" "JLA" "Ljdk/internal/access/JavaLangAccess;") ∈ lw_tbl := lw_at lw_m5 16 rfl
theorem q1092 : (Jvm.Cond.interfaceEntry "jdk/internal/util/ArraysSupport" (110 : Nat)) ∈ lw_tbl := lw_at lw_m5 17 rfl
theorem q1093 : (Jvm.Cond.methodLink "jdk/internal/util/ArraysSupport" (110 : Nat) ({ cls := "jdk/internal/access/JavaLangAccess", name := "getUTF16Char", desc := "([BI)C" } : Jvm.MethodName)) ∈ lw_all := lw_g (lw_at lw_m5 18 rfl) rfl
theorem q1103 : (Jvm.Cond.classLink "jdk/internal/util/ArraysSupport" (69 : Nat) "[C") ∈ lw_all := lw_g (lw_at lw_m5 28 rfl) rfl
theorem q1104 : (Jvm.Cond.methodLink "jdk/internal/util/ArraysSupport" (71 : Nat) ({ cls := "jdk/internal/util/ArraysSupport", name := "hashCode", desc := "(I[CII)I" } : Jvm.MethodName)) ∈ lw_all := lw_g (lw_at lw_m5 29 rfl) rfl
theorem q1105 : (Jvm.Cond.static ({ cls := "jdk/internal/util/ArraysSupport", name := "hashCode", desc := "(I[CII)I" } : Jvm.MethodName)) ∈ lw_all := lw_g (lw_at lw_m5 30 rfl) rfl
theorem q1106 : (Jvm.Cond.code ({ cls := "jdk/internal/util/ArraysSupport", name := "hashCode", desc := "(I[CII)I" } : Jvm.MethodName) prog_70_method_7_code (6 : Nat) (Option.some Jvm.ClassFile.FieldType.int)) ∈ lw_all := lw_g (lw_at lw_m5 31 rfl) rfl
theorem q1107 : (Jvm.Cond.methodLink "jdk/internal/util/ArraysSupport" (75 : Nat) ({ cls := "jdk/internal/util/ArraysSupport", name := "hashCode", desc := "(I[BII)I" } : Jvm.MethodName)) ∈ lw_all := lw_g (lw_at lw_m5 32 rfl) rfl
theorem q1108 : (Jvm.Cond.static ({ cls := "jdk/internal/util/ArraysSupport", name := "hashCode", desc := "(I[BII)I" } : Jvm.MethodName)) ∈ lw_all := lw_g (lw_at lw_m5 33 rfl) rfl
theorem q1109 : (Jvm.Cond.code ({ cls := "jdk/internal/util/ArraysSupport", name := "hashCode", desc := "(I[BII)I" } : Jvm.MethodName) prog_70_method_6_code (6 : Nat) (Option.some Jvm.ClassFile.FieldType.int)) ∈ lw_all := lw_g (lw_at lw_m5 34 rfl) rfl
theorem q1110 : (Jvm.Cond.classLink "jdk/internal/util/ArraysSupport" (77 : Nat) "[S") ∈ lw_all := lw_g (lw_at lw_m5 35 rfl) rfl
theorem q1111 : (Jvm.Cond.methodLink "jdk/internal/util/ArraysSupport" (79 : Nat) ({ cls := "jdk/internal/util/ArraysSupport", name := "hashCode", desc := "(I[SII)I" } : Jvm.MethodName)) ∈ lw_all := lw_g (lw_at lw_m5 36 rfl) rfl
theorem q1112 : (Jvm.Cond.static ({ cls := "jdk/internal/util/ArraysSupport", name := "hashCode", desc := "(I[SII)I" } : Jvm.MethodName)) ∈ lw_all := lw_g (lw_at lw_m5 37 rfl) rfl
theorem q1113 : (Jvm.Cond.code ({ cls := "jdk/internal/util/ArraysSupport", name := "hashCode", desc := "(I[SII)I" } : Jvm.MethodName) prog_70_method_8_code (6 : Nat) (Option.some Jvm.ClassFile.FieldType.int)) ∈ lw_all := lw_g (lw_at lw_m5 38 rfl) rfl
theorem q1114 : (Jvm.Cond.classLink "jdk/internal/util/ArraysSupport" (82 : Nat) "[I") ∈ lw_all := lw_g (lw_at lw_m5 39 rfl) rfl
theorem q1115 : (Jvm.Cond.methodLink "jdk/internal/util/ArraysSupport" (84 : Nat) ({ cls := "jdk/internal/util/ArraysSupport", name := "hashCode", desc := "(I[III)I" } : Jvm.MethodName)) ∈ lw_all := lw_g (lw_at lw_m5 40 rfl) rfl
theorem q1116 : (Jvm.Cond.static ({ cls := "jdk/internal/util/ArraysSupport", name := "hashCode", desc := "(I[III)I" } : Jvm.MethodName)) ∈ lw_all := lw_g (lw_at lw_m5 41 rfl) rfl
theorem q1117 : (Jvm.Cond.code ({ cls := "jdk/internal/util/ArraysSupport", name := "hashCode", desc := "(I[III)I" } : Jvm.MethodName) prog_70_method_9_code (6 : Nat) (Option.some Jvm.ClassFile.FieldType.int)) ∈ lw_all := lw_g (lw_at lw_m5 42 rfl) rfl
theorem q1118 : (Jvm.Cond.classLink "jdk/internal/util/ArraysSupport" (87 : Nat) "java/lang/IllegalArgumentException") ∈ lw_all := lw_g (lw_at lw_m5 43 rfl) rfl
theorem q1119 : (Jvm.Cond.classLink "jdk/internal/util/ArraysSupport" (89 : Nat) "java/lang/StringBuilder") ∈ lw_all := lw_g (lw_at lw_m5 44 rfl) rfl
theorem q1120 : (Jvm.Cond.methodLink "jdk/internal/util/ArraysSupport" (91 : Nat) ({ cls := "java/lang/StringBuilder", name := "<init>", desc := "()V" } : Jvm.MethodName)) ∈ lw_all := lw_g (lw_at lw_m5 45 rfl) rfl
theorem q1121 : (Jvm.Cond.stringRef "jdk/internal/util/ArraysSupport" (92 : Nat) "unrecognized basic type: ") ∈ lw_tbl := lw_at lw_m5 46 rfl
theorem q1122 : (Jvm.Cond.methodLink "jdk/internal/util/ArraysSupport" (94 : Nat) ({ cls := "java/lang/StringBuilder", name := "append", desc := "(Ljava/lang/String;)Ljava/lang/StringBuilder;" } : Jvm.MethodName)) ∈ lw_all := lw_g (lw_at lw_m5 47 rfl) rfl
theorem q1123 : (Jvm.Cond.methodLink "jdk/internal/util/ArraysSupport" (98 : Nat) ({ cls := "java/lang/StringBuilder", name := "append", desc := "(I)Ljava/lang/StringBuilder;" } : Jvm.MethodName)) ∈ lw_all := lw_g (lw_at lw_m5 48 rfl) rfl
theorem q1124 : (Jvm.Cond.methodLink "jdk/internal/util/ArraysSupport" (101 : Nat) ({ cls := "java/lang/StringBuilder", name := "toString", desc := "()Ljava/lang/String;" } : Jvm.MethodName)) ∈ lw_all := lw_g (lw_at lw_m5 49 rfl) rfl
theorem q1125 : (Jvm.Cond.methodLink "jdk/internal/util/ArraysSupport" (105 : Nat) ({ cls := "java/lang/IllegalArgumentException", name := "<init>", desc := "(Ljava/lang/String;)V" } : Jvm.MethodName)) ∈ lw_all := lw_g (lw_at lw_m5 50 rfl) rfl
/-! java/lang/Math -/
set_option maxRecDepth 100000
def RJ17 : String := "java/lang/Math"
abbrev cJ17_min : ByteArray := prog_29_method_69_code
def yJ17_min : MethodName := ⟨RJ17, "min", "(II)I"⟩
def dkwJ17_min_0 : List UInt8 := [26, 27, 163, 0, 7, 26, 167, 0, 4, 27, 172]
abbrev dktJ17_min_0 : List UInt8 := dkwJ17_min_0 ++ []
theorem dksJ17_min_0 : cJ17_min.data.toList.drop 0 = dktJ17_min_0 := by decide +kernel
theorem dJ17_min_0 : decode cJ17_min 0 = .ok (.iload_n 0, 1) := dk_26 (dk_at dksJ17_min_0 0 rfl rfl)
theorem dJ17_min_1 : decode cJ17_min 1 = .ok (.iload_n 1, 1) := dk_27 (dk_at dksJ17_min_0 1 rfl rfl)
theorem dJ17_min_2 : decode cJ17_min 2 = .ok (.if_icmp .gt 7, 3) := dk_163 0 7 (dk_at dksJ17_min_0 2 rfl rfl)
theorem dJ17_min_5 : decode cJ17_min 5 = .ok (.iload_n 0, 1) := dk_26 (dk_at dksJ17_min_0 5 rfl rfl)
theorem dJ17_min_6 : decode cJ17_min 6 = .ok (.goto 4, 3) := dk_167 0 4 (dk_at dksJ17_min_0 6 rfl rfl)
theorem dJ17_min_9 : decode cJ17_min 9 = .ok (.iload_n 1, 1) := dk_27 (dk_at dksJ17_min_0 9 rfl rfl)
theorem dJ17_min_10 : decode cJ17_min 10 = .ok (.ireturn, 1) := dk_172 (dk_at dksJ17_min_0 10 rfl rfl)
abbrev cJ17_max : ByteArray := prog_29_method_65_code
def yJ17_max : MethodName := ⟨RJ17, "max", "(II)I"⟩
def dkwJ17_max_0 : List UInt8 := [26, 27, 161, 0, 7, 26, 167, 0, 4, 27, 172]
abbrev dktJ17_max_0 : List UInt8 := dkwJ17_max_0 ++ []
theorem dksJ17_max_0 : cJ17_max.data.toList.drop 0 = dktJ17_max_0 := by decide +kernel
theorem dJ17_max_0 : decode cJ17_max 0 = .ok (.iload_n 0, 1) := dk_26 (dk_at dksJ17_max_0 0 rfl rfl)
theorem dJ17_max_1 : decode cJ17_max 1 = .ok (.iload_n 1, 1) := dk_27 (dk_at dksJ17_max_0 1 rfl rfl)
theorem dJ17_max_2 : decode cJ17_max 2 = .ok (.if_icmp .lt 7, 3) := dk_161 0 7 (dk_at dksJ17_max_0 2 rfl rfl)
theorem dJ17_max_5 : decode cJ17_max 5 = .ok (.iload_n 0, 1) := dk_26 (dk_at dksJ17_max_0 5 rfl rfl)
theorem dJ17_max_6 : decode cJ17_max 6 = .ok (.goto 4, 3) := dk_167 0 4 (dk_at dksJ17_max_0 6 rfl rfl)
theorem dJ17_max_9 : decode cJ17_max 9 = .ok (.iload_n 1, 1) := dk_27 (dk_at dksJ17_max_0 9 rfl rfl)
theorem dJ17_max_10 : decode cJ17_max 10 = .ok (.ireturn, 1) := dk_172 (dk_at dksJ17_max_0 10 rfl rfl)
theorem q138 : (Jvm.Cond.initialized "java/lang/Math") ∈ lw_all := lw_g (lw_at lw_m1 23 rfl) rfl
theorem q529 : (Jvm.Cond.static ({ cls := "java/lang/Math", name := "min", desc := "(II)I" } : Jvm.MethodName)) ∈ lw_all := lw_g (lw_at lw_m2 174 rfl) rfl
theorem q530 : (Jvm.Cond.code ({ cls := "java/lang/Math", name := "min", desc := "(II)I" } : Jvm.MethodName) prog_29_method_69_code (2 : Nat) (Option.some Jvm.ClassFile.FieldType.int)) ∈ lw_all := lw_g (lw_at lw_m2 175 rfl) rfl
theorem q544 : (Jvm.Cond.static ({ cls := "java/lang/Math", name := "max", desc := "(II)I" } : Jvm.MethodName)) ∈ lw_all := lw_g (lw_at lw_m2 189 rfl) rfl
theorem q545 : (Jvm.Cond.code ({ cls := "java/lang/Math", name := "max", desc := "(II)I" } : Jvm.MethodName) prog_29_method_65_code (2 : Nat) (Option.some Jvm.ClassFile.FieldType.int)) ∈ lw_all := lw_g (lw_at lw_m2 190 rfl) rfl
/-! java/util/Arrays -/
set_option maxRecDepth 100000
def RJ18 : String := "java/util/Arrays"
abbrev cJ18_copyOf : ByteArray := prog_48_method_121_code
def yJ18_copyOf : MethodName := ⟨RJ18, "copyOf", "([BI)[B"⟩
def dkwJ18_copyOf_1 : List UInt8 := [27, 184, 1, 48, 184, 0, 150, 44, 176]
abbrev dktJ18_copyOf_1 : List UInt8 := dkwJ18_copyOf_1 ++ []
def dkwJ18_copyOf_0 : List UInt8 := [27, 42, 190, 160, 0, 11, 42, 182, 1, 54, 192, 1, 55, 176, 27, 188, 8, 77, 42, 3, 44, 3, 42, 190]
abbrev dktJ18_copyOf_0 : List UInt8 := dkwJ18_copyOf_0 ++ dktJ18_copyOf_1
theorem dksJ18_copyOf_0 : cJ18_copyOf.data.toList.drop 0 = dktJ18_copyOf_0 := by decide +kernel
theorem dksJ18_copyOf_1 : cJ18_copyOf.data.toList.drop 24 = dktJ18_copyOf_1 := dk_seg dksJ18_copyOf_0 24 rfl rfl
theorem dJ18_copyOf_0 : decode cJ18_copyOf 0 = .ok (.iload_n 1, 1) := dk_27 (dk_at dksJ18_copyOf_0 0 rfl rfl)
theorem dJ18_copyOf_1 : decode cJ18_copyOf 1 = .ok (.aload_n 0, 1) := dk_42 (dk_at dksJ18_copyOf_0 1 rfl rfl)
theorem dJ18_copyOf_2 : decode cJ18_copyOf 2 = .ok (.arraylength, 1) := dk_190 (dk_at dksJ18_copyOf_0 2 rfl rfl)
theorem dJ18_copyOf_3 : decode cJ18_copyOf 3 = .ok (.if_icmp .ne 11, 3) := dk_160 0 11 (dk_at dksJ18_copyOf_0 3 rfl rfl)
theorem dJ18_copyOf_6 : decode cJ18_copyOf 6 = .ok (.aload_n 0, 1) := dk_42 (dk_at dksJ18_copyOf_0 6 rfl rfl)
theorem dJ18_copyOf_7 : decode cJ18_copyOf 7 = .ok (.invokevirtual 310, 3) := dk_182 1 54 (dk_at dksJ18_copyOf_0 7 rfl rfl)
theorem dJ18_copyOf_10 : decode cJ18_copyOf 10 = .ok (.checkcast 311, 3) := dk_192 1 55 (dk_at dksJ18_copyOf_0 10 rfl rfl)
theorem dJ18_copyOf_13 : decode cJ18_copyOf 13 = .ok (.areturn, 1) := dk_176 (dk_at dksJ18_copyOf_0 13 rfl rfl)
theorem dJ18_copyOf_14 : decode cJ18_copyOf 14 = .ok (.iload_n 1, 1) := dk_27 (dk_at dksJ18_copyOf_0 14 rfl rfl)
theorem dJ18_copyOf_15 : decode cJ18_copyOf 15 = .ok (.newarray .byte, 2) := dk_188_8 (dk_at dksJ18_copyOf_0 15 rfl rfl)
theorem dJ18_copyOf_17 : decode cJ18_copyOf 17 = .ok (.astore_n 2, 1) := dk_77 (dk_at dksJ18_copyOf_0 17 rfl rfl)
theorem dJ18_copyOf_18 : decode cJ18_copyOf 18 = .ok (.aload_n 0, 1) := dk_42 (dk_at dksJ18_copyOf_0 18 rfl rfl)
theorem dJ18_copyOf_19 : decode cJ18_copyOf 19 = .ok (.iconst 0, 1) := dk_3 (dk_at dksJ18_copyOf_0 19 rfl rfl)
theorem dJ18_copyOf_20 : decode cJ18_copyOf 20 = .ok (.aload_n 2, 1) := dk_44 (dk_at dksJ18_copyOf_0 20 rfl rfl)
theorem dJ18_copyOf_21 : decode cJ18_copyOf 21 = .ok (.iconst 0, 1) := dk_3 (dk_at dksJ18_copyOf_0 21 rfl rfl)
theorem dJ18_copyOf_22 : decode cJ18_copyOf 22 = .ok (.aload_n 0, 1) := dk_42 (dk_at dksJ18_copyOf_0 22 rfl rfl)
theorem dJ18_copyOf_23 : decode cJ18_copyOf 23 = .ok (.arraylength, 1) := dk_190 (dk_at dksJ18_copyOf_0 23 rfl rfl)
theorem dJ18_copyOf_24 : decode cJ18_copyOf 24 = .ok (.iload_n 1, 1) := dk_27 (dk_at dksJ18_copyOf_1 0 rfl rfl)
theorem dJ18_copyOf_25 : decode cJ18_copyOf 25 = .ok (.invokestatic 304, 3) := dk_184 1 48 (dk_at dksJ18_copyOf_1 1 rfl rfl)
theorem dJ18_copyOf_28 : decode cJ18_copyOf 28 = .ok (.invokestatic 150, 3) := dk_184 0 150 (dk_at dksJ18_copyOf_1 4 rfl rfl)
theorem dJ18_copyOf_31 : decode cJ18_copyOf 31 = .ok (.aload_n 2, 1) := dk_44 (dk_at dksJ18_copyOf_1 7 rfl rfl)
theorem dJ18_copyOf_32 : decode cJ18_copyOf 32 = .ok (.areturn, 1) := dk_176 (dk_at dksJ18_copyOf_1 8 rfl rfl)
abbrev cJ18_copyOfRange : ByteArray := prog_48_method_132_code
def yJ18_copyOfRange : MethodName := ⟨RJ18, "copyOfRange", "([BII)[B"⟩
def dkwJ18_copyOfRange_1 : List UInt8 := [176]
abbrev dktJ18_copyOfRange_1 : List UInt8 := dkwJ18_copyOfRange_1 ++ []
def dkwJ18_copyOfRange_0 : List UInt8 := [27, 154, 0, 9, 28, 42, 190, 159, 0, 10, 42, 27, 28, 184, 1, 83, 176, 42, 182, 1, 54, 192, 1, 55]
abbrev dktJ18_copyOfRange_0 : List UInt8 := dkwJ18_copyOfRange_0 ++ dktJ18_copyOfRange_1
theorem dksJ18_copyOfRange_0 : cJ18_copyOfRange.data.toList.drop 0 = dktJ18_copyOfRange_0 := by decide +kernel
theorem dksJ18_copyOfRange_1 : cJ18_copyOfRange.data.toList.drop 24 = dktJ18_copyOfRange_1 := dk_seg dksJ18_copyOfRange_0 24 rfl rfl
theorem dJ18_copyOfRange_0 : decode cJ18_copyOfRange 0 = .ok (.iload_n 1, 1) := dk_27 (dk_at dksJ18_copyOfRange_0 0 rfl rfl)
theorem dJ18_copyOfRange_1 : decode cJ18_copyOfRange 1 = .ok (.ifCond .ne 9, 3) := dk_154 0 9 (dk_at dksJ18_copyOfRange_0 1 rfl rfl)
theorem dJ18_copyOfRange_4 : decode cJ18_copyOfRange 4 = .ok (.iload_n 2, 1) := dk_28 (dk_at dksJ18_copyOfRange_0 4 rfl rfl)
theorem dJ18_copyOfRange_5 : decode cJ18_copyOfRange 5 = .ok (.aload_n 0, 1) := dk_42 (dk_at dksJ18_copyOfRange_0 5 rfl rfl)
theorem dJ18_copyOfRange_6 : decode cJ18_copyOfRange 6 = .ok (.arraylength, 1) := dk_190 (dk_at dksJ18_copyOfRange_0 6 rfl rfl)
theorem dJ18_copyOfRange_7 : decode cJ18_copyOfRange 7 = .ok (.if_icmp .eq 10, 3) := dk_159 0 10 (dk_at dksJ18_copyOfRange_0 7 rfl rfl)
theorem dJ18_copyOfRange_10 : decode cJ18_copyOfRange 10 = .ok (.aload_n 0, 1) := dk_42 (dk_at dksJ18_copyOfRange_0 10 rfl rfl)
theorem dJ18_copyOfRange_11 : decode cJ18_copyOfRange 11 = .ok (.iload_n 1, 1) := dk_27 (dk_at dksJ18_copyOfRange_0 11 rfl rfl)
theorem dJ18_copyOfRange_12 : decode cJ18_copyOfRange 12 = .ok (.iload_n 2, 1) := dk_28 (dk_at dksJ18_copyOfRange_0 12 rfl rfl)
theorem dJ18_copyOfRange_13 : decode cJ18_copyOfRange 13 = .ok (.invokestatic 339, 3) := dk_184 1 83 (dk_at dksJ18_copyOfRange_0 13 rfl rfl)
theorem dJ18_copyOfRange_16 : decode cJ18_copyOfRange 16 = .ok (.areturn, 1) := dk_176 (dk_at dksJ18_copyOfRange_0 16 rfl rfl)
theorem dJ18_copyOfRange_17 : decode cJ18_copyOfRange 17 = .ok (.aload_n 0, 1) := dk_42 (dk_at dksJ18_copyOfRange_0 17 rfl rfl)
theorem dJ18_copyOfRange_18 : decode cJ18_copyOfRange 18 = .ok (.invokevirtual 310, 3) := dk_182 1 54 (dk_at dksJ18_copyOfRange_0 18 rfl rfl)
theorem dJ18_copyOfRange_21 : decode cJ18_copyOfRange 21 = .ok (.checkcast 311, 3) := dk_192 1 55 (dk_at dksJ18_copyOfRange_0 21 rfl rfl)
theorem dJ18_copyOfRange_24 : decode cJ18_copyOfRange 24 = .ok (.areturn, 1) := dk_176 (dk_at dksJ18_copyOfRange_1 0 rfl rfl)
abbrev cJ18_copyOfRangeByte : ByteArray := prog_48_method_133_code
def yJ18_copyOfRangeByte : MethodName := ⟨RJ18, "copyOfRangeByte", "([BII)[B"⟩
def dkwJ18_copyOfRangeByte_1 : List UInt8 := [184, 1, 48, 184, 0, 150, 25, 4, 176]
abbrev dktJ18_copyOfRangeByte_1 : List UInt8 := dkwJ18_copyOfRangeByte_1 ++ []
def dkwJ18_copyOfRangeByte_0 : List UInt8 := [27, 28, 184, 1, 87, 28, 27, 100, 62, 29, 188, 8, 58, 4, 42, 27, 25, 4, 3, 42, 190, 27, 100, 29]
abbrev dktJ18_copyOfRangeByte_0 : List UInt8 := dkwJ18_copyOfRangeByte_0 ++ dktJ18_copyOfRangeByte_1
theorem dksJ18_copyOfRangeByte_0 : cJ18_copyOfRangeByte.data.toList.drop 0 = dktJ18_copyOfRangeByte_0 := by decide +kernel
theorem dksJ18_copyOfRangeByte_1 : cJ18_copyOfRangeByte.data.toList.drop 24 = dktJ18_copyOfRangeByte_1 := dk_seg dksJ18_copyOfRangeByte_0 24 rfl rfl
theorem dJ18_copyOfRangeByte_0 : decode cJ18_copyOfRangeByte 0 = .ok (.iload_n 1, 1) := dk_27 (dk_at dksJ18_copyOfRangeByte_0 0 rfl rfl)
theorem dJ18_copyOfRangeByte_1 : decode cJ18_copyOfRangeByte 1 = .ok (.iload_n 2, 1) := dk_28 (dk_at dksJ18_copyOfRangeByte_0 1 rfl rfl)
theorem dJ18_copyOfRangeByte_2 : decode cJ18_copyOfRangeByte 2 = .ok (.invokestatic 343, 3) := dk_184 1 87 (dk_at dksJ18_copyOfRangeByte_0 2 rfl rfl)
theorem dJ18_copyOfRangeByte_5 : decode cJ18_copyOfRangeByte 5 = .ok (.iload_n 2, 1) := dk_28 (dk_at dksJ18_copyOfRangeByte_0 5 rfl rfl)
theorem dJ18_copyOfRangeByte_6 : decode cJ18_copyOfRangeByte 6 = .ok (.iload_n 1, 1) := dk_27 (dk_at dksJ18_copyOfRangeByte_0 6 rfl rfl)
theorem dJ18_copyOfRangeByte_7 : decode cJ18_copyOfRangeByte 7 = .ok (.isub, 1) := dk_100 (dk_at dksJ18_copyOfRangeByte_0 7 rfl rfl)
theorem dJ18_copyOfRangeByte_8 : decode cJ18_copyOfRangeByte 8 = .ok (.istore_n 3, 1) := dk_62 (dk_at dksJ18_copyOfRangeByte_0 8 rfl rfl)
theorem dJ18_copyOfRangeByte_9 : decode cJ18_copyOfRangeByte 9 = .ok (.iload_n 3, 1) := dk_29 (dk_at dksJ18_copyOfRangeByte_0 9 rfl rfl)
theorem dJ18_copyOfRangeByte_10 : decode cJ18_copyOfRangeByte 10 = .ok (.newarray .byte, 2) := dk_188_8 (dk_at dksJ18_copyOfRangeByte_0 10 rfl rfl)
theorem dJ18_copyOfRangeByte_12 : decode cJ18_copyOfRangeByte 12 = .ok (.astore 4, 2) := dk_58 4 (dk_at dksJ18_copyOfRangeByte_0 12 rfl rfl)
theorem dJ18_copyOfRangeByte_14 : decode cJ18_copyOfRangeByte 14 = .ok (.aload_n 0, 1) := dk_42 (dk_at dksJ18_copyOfRangeByte_0 14 rfl rfl)
theorem dJ18_copyOfRangeByte_15 : decode cJ18_copyOfRangeByte 15 = .ok (.iload_n 1, 1) := dk_27 (dk_at dksJ18_copyOfRangeByte_0 15 rfl rfl)
theorem dJ18_copyOfRangeByte_16 : decode cJ18_copyOfRangeByte 16 = .ok (.aload 4, 2) := dk_25 4 (dk_at dksJ18_copyOfRangeByte_0 16 rfl rfl)
theorem dJ18_copyOfRangeByte_18 : decode cJ18_copyOfRangeByte 18 = .ok (.iconst 0, 1) := dk_3 (dk_at dksJ18_copyOfRangeByte_0 18 rfl rfl)
theorem dJ18_copyOfRangeByte_19 : decode cJ18_copyOfRangeByte 19 = .ok (.aload_n 0, 1) := dk_42 (dk_at dksJ18_copyOfRangeByte_0 19 rfl rfl)
theorem dJ18_copyOfRangeByte_20 : decode cJ18_copyOfRangeByte 20 = .ok (.arraylength, 1) := dk_190 (dk_at dksJ18_copyOfRangeByte_0 20 rfl rfl)
theorem dJ18_copyOfRangeByte_21 : decode cJ18_copyOfRangeByte 21 = .ok (.iload_n 1, 1) := dk_27 (dk_at dksJ18_copyOfRangeByte_0 21 rfl rfl)
theorem dJ18_copyOfRangeByte_22 : decode cJ18_copyOfRangeByte 22 = .ok (.isub, 1) := dk_100 (dk_at dksJ18_copyOfRangeByte_0 22 rfl rfl)
theorem dJ18_copyOfRangeByte_23 : decode cJ18_copyOfRangeByte 23 = .ok (.iload_n 3, 1) := dk_29 (dk_at dksJ18_copyOfRangeByte_0 23 rfl rfl)
theorem dJ18_copyOfRangeByte_24 : decode cJ18_copyOfRangeByte 24 = .ok (.invokestatic 304, 3) := dk_184 1 48 (dk_at dksJ18_copyOfRangeByte_1 0 rfl rfl)
theorem dJ18_copyOfRangeByte_27 : decode cJ18_copyOfRangeByte 27 = .ok (.invokestatic 150, 3) := dk_184 0 150 (dk_at dksJ18_copyOfRangeByte_1 3 rfl rfl)
theorem dJ18_copyOfRangeByte_30 : decode cJ18_copyOfRangeByte 30 = .ok (.aload 4, 2) := dk_25 4 (dk_at dksJ18_copyOfRangeByte_1 6 rfl rfl)
theorem dJ18_copyOfRangeByte_32 : decode cJ18_copyOfRangeByte 32 = .ok (.areturn, 1) := dk_176 (dk_at dksJ18_copyOfRangeByte_1 8 rfl rfl)
abbrev cJ18_checkLength : ByteArray := prog_48_method_131_code
def yJ18_checkLength : MethodName := ⟨RJ18, "checkLength", "(II)V"⟩
def dkwJ18_checkLength_1 : List UInt8 := [182, 0, 50, 27, 182, 0, 54, 182, 0, 61, 183, 0, 65, 191, 177]
abbrev dktJ18_checkLength_1 : List UInt8 := dkwJ18_checkLength_1 ++ []
def dkwJ18_checkLength_0 : List UInt8 := [27, 26, 162, 0, 35, 187, 0, 43, 89, 187, 0, 45, 89, 183, 0, 47, 26, 182, 0, 54, 19, 1, 81]
abbrev dktJ18_checkLength_0 : List UInt8 := dkwJ18_checkLength_0 ++ dktJ18_checkLength_1
theorem dksJ18_checkLength_0 : cJ18_checkLength.data.toList.drop 0 = dktJ18_checkLength_0 := by decide +kernel
theorem dksJ18_checkLength_1 : cJ18_checkLength.data.toList.drop 23 = dktJ18_checkLength_1 := dk_seg dksJ18_checkLength_0 23 rfl rfl
theorem dJ18_checkLength_0 : decode cJ18_checkLength 0 = .ok (.iload_n 1, 1) := dk_27 (dk_at dksJ18_checkLength_0 0 rfl rfl)
theorem dJ18_checkLength_1 : decode cJ18_checkLength 1 = .ok (.iload_n 0, 1) := dk_26 (dk_at dksJ18_checkLength_0 1 rfl rfl)
theorem dJ18_checkLength_2 : decode cJ18_checkLength 2 = .ok (.if_icmp .ge 35, 3) := dk_162 0 35 (dk_at dksJ18_checkLength_0 2 rfl rfl)
theorem dJ18_checkLength_5 : decode cJ18_checkLength 5 = .ok (.new 43, 3) := dk_187 0 43 (dk_at dksJ18_checkLength_0 5 rfl rfl)
theorem dJ18_checkLength_8 : decode cJ18_checkLength 8 = .ok (.dup, 1) := dk_89 (dk_at dksJ18_checkLength_0 8 rfl rfl)
theorem dJ18_checkLength_9 : decode cJ18_checkLength 9 = .ok (.new 45, 3) := dk_187 0 45 (dk_at dksJ18_checkLength_0 9 rfl rfl)
theorem dJ18_checkLength_12 : decode cJ18_checkLength 12 = .ok (.dup, 1) := dk_89 (dk_at dksJ18_checkLength_0 12 rfl rfl)
theorem dJ18_checkLength_13 : decode cJ18_checkLength 13 = .ok (.invokespecial 47, 3) := dk_183 0 47 (dk_at dksJ18_checkLength_0 13 rfl rfl)
theorem dJ18_checkLength_16 : decode cJ18_checkLength 16 = .ok (.iload_n 0, 1) := dk_26 (dk_at dksJ18_checkLength_0 16 rfl rfl)
theorem dJ18_checkLength_17 : decode cJ18_checkLength 17 = .ok (.invokevirtual 54, 3) := dk_182 0 54 (dk_at dksJ18_checkLength_0 17 rfl rfl)
theorem dJ18_checkLength_20 : decode cJ18_checkLength 20 = .ok (.ldc_w 337, 3) := dk_19 1 81 (dk_at dksJ18_checkLength_0 20 rfl rfl)
theorem dJ18_checkLength_23 : decode cJ18_checkLength 23 = .ok (.invokevirtual 50, 3) := dk_182 0 50 (dk_at dksJ18_checkLength_1 0 rfl rfl)
theorem dJ18_checkLength_26 : decode cJ18_checkLength 26 = .ok (.iload_n 1, 1) := dk_27 (dk_at dksJ18_checkLength_1 3 rfl rfl)
theorem dJ18_checkLength_27 : decode cJ18_checkLength 27 = .ok (.invokevirtual 54, 3) := dk_182 0 54 (dk_at dksJ18_checkLength_1 4 rfl rfl)
theorem dJ18_checkLength_30 : decode cJ18_checkLength 30 = .ok (.invokevirtual 61, 3) := dk_182 0 61 (dk_at dksJ18_checkLength_1 7 rfl rfl)
theorem dJ18_checkLength_33 : decode cJ18_checkLength 33 = .ok (.invokespecial 65, 3) := dk_183 0 65 (dk_at dksJ18_checkLength_1 10 rfl rfl)
theorem dJ18_checkLength_36 : decode cJ18_checkLength 36 = .ok (.athrow, 1) := dk_191 (dk_at dksJ18_checkLength_1 13 rfl rfl)
theorem dJ18_checkLength_37 : decode cJ18_checkLength 37 = .ok (.return_, 1) := dk_177 (dk_at dksJ18_checkLength_1 14 rfl rfl)
abbrev cJ18_copyOf_2 : ByteArray := prog_48_method_119_code
def yJ18_copyOf_2 : MethodName := ⟨RJ18, "copyOf", "([Ljava/lang/Object;I)[Ljava/lang/Object;"⟩
def dkwJ18_copyOf_2_0 : List UInt8 := [42, 27, 42, 182, 0, 86, 184, 1, 44, 176]
abbrev dktJ18_copyOf_2_0 : List UInt8 := dkwJ18_copyOf_2_0 ++ []
theorem dksJ18_copyOf_2_0 : cJ18_copyOf_2.data.toList.drop 0 = dktJ18_copyOf_2_0 := by decide +kernel
theorem dJ18_copyOf_2_0 : decode cJ18_copyOf_2 0 = .ok (.aload_n 0, 1) := dk_42 (dk_at dksJ18_copyOf_2_0 0 rfl rfl)
theorem dJ18_copyOf_2_1 : decode cJ18_copyOf_2 1 = .ok (.iload_n 1, 1) := dk_27 (dk_at dksJ18_copyOf_2_0 1 rfl rfl)
theorem dJ18_copyOf_2_2 : decode cJ18_copyOf_2 2 = .ok (.aload_n 0, 1) := dk_42 (dk_at dksJ18_copyOf_2_0 2 rfl rfl)
theorem dJ18_copyOf_2_3 : decode cJ18_copyOf_2 3 = .ok (.invokevirtual 86, 3) := dk_182 0 86 (dk_at dksJ18_copyOf_2_0 3 rfl rfl)
theorem dJ18_copyOf_2_6 : decode cJ18_copyOf_2 6 = .ok (.invokestatic 300, 3) := dk_184 1 44 (dk_at dksJ18_copyOf_2_0 6 rfl rfl)
theorem dJ18_copyOf_2_9 : decode cJ18_copyOf_2 9 = .ok (.areturn, 1) := dk_176 (dk_at dksJ18_copyOf_2_0 9 rfl rfl)
abbrev cJ18_copyOf_3 : ByteArray := prog_48_method_120_code
def yJ18_copyOf_3 : MethodName := ⟨RJ18, "copyOf", "([Ljava/lang/Object;ILjava/lang/Class;)[Ljava/lang/Object;"⟩
def dkwJ18_copyOf_3_1 : List UInt8 := [78, 42, 3, 45, 3, 42, 190, 27, 184, 1, 48, 184, 0, 150, 45, 176]
abbrev dktJ18_copyOf_3_1 : List UInt8 := dkwJ18_copyOf_3_1 ++ []
def dkwJ18_copyOf_3_0 : List UInt8 := [44, 18, 110, 166, 0, 10, 27, 189, 0, 2, 167, 0, 14, 44, 182, 0, 90, 27, 184, 0, 95, 192, 0, 110]
abbrev dktJ18_copyOf_3_0 : List UInt8 := dkwJ18_copyOf_3_0 ++ dktJ18_copyOf_3_1
theorem dksJ18_copyOf_3_0 : cJ18_copyOf_3.data.toList.drop 0 = dktJ18_copyOf_3_0 := by decide +kernel
theorem dksJ18_copyOf_3_1 : cJ18_copyOf_3.data.toList.drop 24 = dktJ18_copyOf_3_1 := dk_seg dksJ18_copyOf_3_0 24 rfl rfl
theorem dJ18_copyOf_3_0 : decode cJ18_copyOf_3 0 = .ok (.aload_n 2, 1) := dk_44 (dk_at dksJ18_copyOf_3_0 0 rfl rfl)
theorem dJ18_copyOf_3_1 : decode cJ18_copyOf_3 1 = .ok (.ldc 110, 2) := dk_18 110 (dk_at dksJ18_copyOf_3_0 1 rfl rfl)
theorem dJ18_copyOf_3_3 : decode cJ18_copyOf_3 3 = .ok (.if_acmp .ne 10, 3) := dk_166 0 10 (dk_at dksJ18_copyOf_3_0 3 rfl rfl)
theorem dJ18_copyOf_3_6 : decode cJ18_copyOf_3 6 = .ok (.iload_n 1, 1) := dk_27 (dk_at dksJ18_copyOf_3_0 6 rfl rfl)
theorem dJ18_copyOf_3_7 : decode cJ18_copyOf_3 7 = .ok (.anewarray 2, 3) := dk_189 0 2 (dk_at dksJ18_copyOf_3_0 7 rfl rfl)
theorem dJ18_copyOf_3_10 : decode cJ18_copyOf_3 10 = .ok (.goto 14, 3) := dk_167 0 14 (dk_at dksJ18_copyOf_3_0 10 rfl rfl)
theorem dJ18_copyOf_3_13 : decode cJ18_copyOf_3 13 = .ok (.aload_n 2, 1) := dk_44 (dk_at dksJ18_copyOf_3_0 13 rfl rfl)
theorem dJ18_copyOf_3_14 : decode cJ18_copyOf_3 14 = .ok (.invokevirtual 90, 3) := dk_182 0 90 (dk_at dksJ18_copyOf_3_0 14 rfl rfl)
theorem dJ18_copyOf_3_17 : decode cJ18_copyOf_3 17 = .ok (.iload_n 1, 1) := dk_27 (dk_at dksJ18_copyOf_3_0 17 rfl rfl)
theorem dJ18_copyOf_3_18 : decode cJ18_copyOf_3 18 = .ok (.invokestatic 95, 3) := dk_184 0 95 (dk_at dksJ18_copyOf_3_0 18 rfl rfl)
theorem dJ18_copyOf_3_21 : decode cJ18_copyOf_3 21 = .ok (.checkcast 110, 3) := dk_192 0 110 (dk_at dksJ18_copyOf_3_0 21 rfl rfl)
theorem dJ18_copyOf_3_24 : decode cJ18_copyOf_3 24 = .ok (.astore_n 3, 1) := dk_78 (dk_at dksJ18_copyOf_3_1 0 rfl rfl)
theorem dJ18_copyOf_3_25 : decode cJ18_copyOf_3 25 = .ok (.aload_n 0, 1) := dk_42 (dk_at dksJ18_copyOf_3_1 1 rfl rfl)
theorem dJ18_copyOf_3_26 : decode cJ18_copyOf_3 26 = .ok (.iconst 0, 1) := dk_3 (dk_at dksJ18_copyOf_3_1 2 rfl rfl)
theorem dJ18_copyOf_3_27 : decode cJ18_copyOf_3 27 = .ok (.aload_n 3, 1) := dk_45 (dk_at dksJ18_copyOf_3_1 3 rfl rfl)
theorem dJ18_copyOf_3_28 : decode cJ18_copyOf_3 28 = .ok (.iconst 0, 1) := dk_3 (dk_at dksJ18_copyOf_3_1 4 rfl rfl)
theorem dJ18_copyOf_3_29 : decode cJ18_copyOf_3 29 = .ok (.aload_n 0, 1) := dk_42 (dk_at dksJ18_copyOf_3_1 5 rfl rfl)
theorem dJ18_copyOf_3_30 : decode cJ18_copyOf_3 30 = .ok (.arraylength, 1) := dk_190 (dk_at dksJ18_copyOf_3_1 6 rfl rfl)
theorem dJ18_copyOf_3_31 : decode cJ18_copyOf_3 31 = .ok (.iload_n 1, 1) := dk_27 (dk_at dksJ18_copyOf_3_1 7 rfl rfl)
theorem dJ18_copyOf_3_32 : decode cJ18_copyOf_3 32 = .ok (.invokestatic 304, 3) := dk_184 1 48 (dk_at dksJ18_copyOf_3_1 8 rfl rfl)
theorem dJ18_copyOf_3_35 : decode cJ18_copyOf_3 35 = .ok (.invokestatic 150, 3) := dk_184 0 150 (dk_at dksJ18_copyOf_3_1 11 rfl rfl)
theorem dJ18_copyOf_3_38 : decode cJ18_copyOf_3 38 = .ok (.aload_n 3, 1) := dk_45 (dk_at dksJ18_copyOf_3_1 14 rfl rfl)
theorem dJ18_copyOf_3_39 : decode cJ18_copyOf_3 39 = .ok (.areturn, 1) := dk_176 (dk_at dksJ18_copyOf_3_1 15 rfl rfl)
abbrev cJ18_copyOf_4 : ByteArray := prog_48_method_124_code
def yJ18_copyOf_4 : MethodName := ⟨RJ18, "copyOf", "([JI)[J"⟩
def dkwJ18_copyOf_4_1 : List UInt8 := [27, 184, 1, 48, 184, 0, 150, 44, 176]
abbrev dktJ18_copyOf_4_1 : List UInt8 := dkwJ18_copyOf_4_1 ++ []
def dkwJ18_copyOf_4_0 : List UInt8 := [27, 42, 190, 160, 0, 11, 42, 182, 1, 63, 192, 1, 64, 176, 27, 188, 11, 77, 42, 3, 44, 3, 42, 190]
abbrev dktJ18_copyOf_4_0 : List UInt8 := dkwJ18_copyOf_4_0 ++ dktJ18_copyOf_4_1
theorem dksJ18_copyOf_4_0 : cJ18_copyOf_4.data.toList.drop 0 = dktJ18_copyOf_4_0 := by decide +kernel
theorem dksJ18_copyOf_4_1 : cJ18_copyOf_4.data.toList.drop 24 = dktJ18_copyOf_4_1 := dk_seg dksJ18_copyOf_4_0 24 rfl rfl
theorem dJ18_copyOf_4_0 : decode cJ18_copyOf_4 0 = .ok (.iload_n 1, 1) := dk_27 (dk_at dksJ18_copyOf_4_0 0 rfl rfl)
theorem dJ18_copyOf_4_1 : decode cJ18_copyOf_4 1 = .ok (.aload_n 0, 1) := dk_42 (dk_at dksJ18_copyOf_4_0 1 rfl rfl)
theorem dJ18_copyOf_4_2 : decode cJ18_copyOf_4 2 = .ok (.arraylength, 1) := dk_190 (dk_at dksJ18_copyOf_4_0 2 rfl rfl)
theorem dJ18_copyOf_4_3 : decode cJ18_copyOf_4 3 = .ok (.if_icmp .ne 11, 3) := dk_160 0 11 (dk_at dksJ18_copyOf_4_0 3 rfl rfl)
theorem dJ18_copyOf_4_6 : decode cJ18_copyOf_4 6 = .ok (.aload_n 0, 1) := dk_42 (dk_at dksJ18_copyOf_4_0 6 rfl rfl)
theorem dJ18_copyOf_4_7 : decode cJ18_copyOf_4 7 = .ok (.invokevirtual 319, 3) := dk_182 1 63 (dk_at dksJ18_copyOf_4_0 7 rfl rfl)
theorem dJ18_copyOf_4_10 : decode cJ18_copyOf_4 10 = .ok (.checkcast 320, 3) := dk_192 1 64 (dk_at dksJ18_copyOf_4_0 10 rfl rfl)
theorem dJ18_copyOf_4_13 : decode cJ18_copyOf_4 13 = .ok (.areturn, 1) := dk_176 (dk_at dksJ18_copyOf_4_0 13 rfl rfl)
theorem dJ18_copyOf_4_14 : decode cJ18_copyOf_4 14 = .ok (.iload_n 1, 1) := dk_27 (dk_at dksJ18_copyOf_4_0 14 rfl rfl)
theorem dJ18_copyOf_4_15 : decode cJ18_copyOf_4 15 = .ok (.newarray .long, 2) := dk_188_11 (dk_at dksJ18_copyOf_4_0 15 rfl rfl)
theorem dJ18_copyOf_4_17 : decode cJ18_copyOf_4 17 = .ok (.astore_n 2, 1) := dk_77 (dk_at dksJ18_copyOf_4_0 17 rfl rfl)
theorem dJ18_copyOf_4_18 : decode cJ18_copyOf_4 18 = .ok (.aload_n 0, 1) := dk_42 (dk_at dksJ18_copyOf_4_0 18 rfl rfl)
theorem dJ18_copyOf_4_19 : decode cJ18_copyOf_4 19 = .ok (.iconst 0, 1) := dk_3 (dk_at dksJ18_copyOf_4_0 19 rfl rfl)
theorem dJ18_copyOf_4_20 : decode cJ18_copyOf_4 20 = .ok (.aload_n 2, 1) := dk_44 (dk_at dksJ18_copyOf_4_0 20 rfl rfl)
theorem dJ18_copyOf_4_21 : decode cJ18_copyOf_4 21 = .ok (.iconst 0, 1) := dk_3 (dk_at dksJ18_copyOf_4_0 21 rfl rfl)
theorem dJ18_copyOf_4_22 : decode cJ18_copyOf_4 22 = .ok (.aload_n 0, 1) := dk_42 (dk_at dksJ18_copyOf_4_0 22 rfl rfl)
theorem dJ18_copyOf_4_23 : decode cJ18_copyOf_4 23 = .ok (.arraylength, 1) := dk_190 (dk_at dksJ18_copyOf_4_0 23 rfl rfl)
theorem dJ18_copyOf_4_24 : decode cJ18_copyOf_4 24 = .ok (.iload_n 1, 1) := dk_27 (dk_at dksJ18_copyOf_4_1 0 rfl rfl)
theorem dJ18_copyOf_4_25 : decode cJ18_copyOf_4 25 = .ok (.invokestatic 304, 3) := dk_184 1 48 (dk_at dksJ18_copyOf_4_1 1 rfl rfl)
theorem dJ18_copyOf_4_28 : decode cJ18_copyOf_4 28 = .ok (.invokestatic 150, 3) := dk_184 0 150 (dk_at dksJ18_copyOf_4_1 4 rfl rfl)
theorem dJ18_copyOf_4_31 : decode cJ18_copyOf_4 31 = .ok (.aload_n 2, 1) := dk_44 (dk_at dksJ18_copyOf_4_1 7 rfl rfl)
theorem dJ18_copyOf_4_32 : decode cJ18_copyOf_4 32 = .ok (.areturn, 1) := dk_176 (dk_at dksJ18_copyOf_4_1 8 rfl rfl)
theorem q139 : (Jvm.Cond.initialized "java/util/Arrays") ∈ lw_all := lw_g (lw_at lw_m1 24 rfl) rfl
theorem q831 : (Jvm.Cond.static ({ cls := "java/util/Arrays", name := "copyOf", desc := "([BI)[B" } : Jvm.MethodName)) ∈ lw_all := lw_g (lw_at lw_m3 236 rfl) rfl
theorem q832 : (Jvm.Cond.code ({ cls := "java/util/Arrays", name := "copyOf", desc := "([BI)[B" } : Jvm.MethodName) prog_48_method_121_code (3 : Nat) (Option.some (Jvm.ClassFile.FieldType.array Jvm.ClassFile.FieldType.byte))) ∈ lw_all := lw_g (lw_at lw_m3 237 rfl) rfl
theorem q833 : (Jvm.Cond.methodLink "java/util/Arrays" (310 : Nat) ({ cls := "[B", name := "clone", desc := "()Ljava/lang/Object;" } : Jvm.MethodName)) ∈ lw_all := lw_g (lw_at lw_m3 238 rfl) rfl
theorem q839 : (Jvm.Cond.classLink "java/util/Arrays" (311 : Nat) "[B") ∈ lw_all := lw_g (lw_at lw_m4 4 rfl) rfl
theorem q840 : (Jvm.Cond.methodLink "java/util/Arrays" (304 : Nat) ({ cls := "java/lang/Math", name := "min", desc := "(II)I" } : Jvm.MethodName)) ∈ lw_all := lw_g (lw_at lw_m4 5 rfl) rfl
theorem q841 : (Jvm.Cond.methodLink "java/util/Arrays" (150 : Nat) ({ cls := "java/lang/System", name := "arraycopy", desc := "(Ljava/lang/Object;ILjava/lang/Object;II)V" } : Jvm.MethodName)) ∈ lw_all := lw_g (lw_at lw_m4 6 rfl) rfl
theorem q903 : (Jvm.Cond.static ({ cls := "java/util/Arrays", name := "copyOfRange", desc := "([BII)[B" } : Jvm.MethodName)) ∈ lw_all := lw_g (lw_at lw_m4 68 rfl) rfl
theorem q904 : (Jvm.Cond.code ({ cls := "java/util/Arrays", name := "copyOfRange", desc := "([BII)[B" } : Jvm.MethodName) prog_48_method_132_code (3 : Nat) (Option.some (Jvm.ClassFile.FieldType.array Jvm.ClassFile.FieldType.byte))) ∈ lw_all := lw_g (lw_at lw_m4 69 rfl) rfl
theorem q905 : (Jvm.Cond.methodLink "java/util/Arrays" (339 : Nat) ({ cls := "java/util/Arrays", name := "copyOfRangeByte", desc := "([BII)[B" } : Jvm.MethodName)) ∈ lw_all := lw_g (lw_at lw_m4 70 rfl) rfl
theorem q906 : (Jvm.Cond.static ({ cls := "java/util/Arrays", name := "copyOfRangeByte", desc := "([BII)[B" } : Jvm.MethodName)) ∈ lw_all := lw_g (lw_at lw_m4 71 rfl) rfl
theorem q907 : (Jvm.Cond.code ({ cls := "java/util/Arrays", name := "copyOfRangeByte", desc := "([BII)[B" } : Jvm.MethodName) prog_48_method_133_code (5 : Nat) (Option.some (Jvm.ClassFile.FieldType.array Jvm.ClassFile.FieldType.byte))) ∈ lw_all := lw_g (lw_at lw_m4 72 rfl) rfl
theorem q908 : (Jvm.Cond.methodLink "java/util/Arrays" (343 : Nat) ({ cls := "java/util/Arrays", name := "checkLength", desc := "(II)V" } : Jvm.MethodName)) ∈ lw_all := lw_g (lw_at lw_m4 73 rfl) rfl
theorem q909 : (Jvm.Cond.static ({ cls := "java/util/Arrays", name := "checkLength", desc := "(II)V" } : Jvm.MethodName)) ∈ lw_all := lw_g (lw_at lw_m4 74 rfl) rfl
theorem q910 : (Jvm.Cond.code ({ cls := "java/util/Arrays", name := "checkLength", desc := "(II)V" } : Jvm.MethodName) prog_48_method_131_code (2 : Nat) (Option.none : Option Jvm.ClassFile.FieldType)) ∈ lw_all := lw_g (lw_at lw_m4 75 rfl) rfl
theorem q911 : (Jvm.Cond.classLink "java/util/Arrays" (43 : Nat) "java/lang/IllegalArgumentException") ∈ lw_all := lw_g (lw_at lw_m4 76 rfl) rfl
theorem q920 : (Jvm.Cond.classLink "java/util/Arrays" (45 : Nat) "java/lang/StringBuilder") ∈ lw_all := lw_g (lw_at lw_m4 85 rfl) rfl
theorem q921 : (Jvm.Cond.methodLink "java/util/Arrays" (47 : Nat) ({ cls := "java/lang/StringBuilder", name := "<init>", desc := "()V" } : Jvm.MethodName)) ∈ lw_all := lw_g (lw_at lw_m4 86 rfl) rfl
theorem q922 : (Jvm.Cond.methodLink "java/util/Arrays" (54 : Nat) ({ cls := "java/lang/StringBuilder", name := "append", desc := "(I)Ljava/lang/StringBuilder;" } : Jvm.MethodName)) ∈ lw_all := lw_g (lw_at lw_m4 87 rfl) rfl
theorem q956 : (Jvm.Cond.stringRef "java/util/Arrays" (337 : Nat) " > ") ∈ lw_tbl := lw_at lw_m4 121 rfl
theorem q957 : (Jvm.Cond.methodLink "java/util/Arrays" (50 : Nat) ({ cls := "java/lang/StringBuilder", name := "append", desc := "(Ljava/lang/String;)Ljava/lang/StringBuilder;" } : Jvm.MethodName)) ∈ lw_all := lw_g (lw_at lw_m4 122 rfl) rfl
theorem q987 : (Jvm.Cond.methodLink "java/util/Arrays" (61 : Nat) ({ cls := "java/lang/StringBuilder", name := "toString", desc := "()Ljava/lang/String;" } : Jvm.MethodName)) ∈ lw_all := lw_g (lw_at lw_m4 152 rfl) rfl
theorem q988 : (Jvm.Cond.methodLink "java/util/Arrays" (65 : Nat) ({ cls := "java/lang/IllegalArgumentException", name := "<init>", desc := "(Ljava/lang/String;)V" } : Jvm.MethodName)) ∈ lw_all := lw_g (lw_at lw_m4 153 rfl) rfl
theorem q1588 : (Jvm.Cond.static ({ cls := "java/util/Arrays", name := "copyOf", desc := "([Ljava/lang/Object;I)[Ljava/lang/Object;" } : Jvm.MethodName)) ∈ lw_all := lw_g (lw_at lw_m7 33 rfl) rfl
theorem q1589 : (Jvm.Cond.code ({ cls := "java/util/Arrays", name := "copyOf", desc := "([Ljava/lang/Object;I)[Ljava/lang/Object;" } : Jvm.MethodName) prog_48_method_119_code (2 : Nat) (Option.some (Jvm.ClassFile.FieldType.array (Jvm.ClassFile.FieldType.object "java/lang/Object")))) ∈ lw_all := lw_g (lw_at lw_m7 34 rfl) rfl
theorem q1590 : (Jvm.Cond.methodLink "java/util/Arrays" (86 : Nat) ({ cls := "java/lang/Object", name := "getClass", desc := "()Ljava/lang/Class;" } : Jvm.MethodName)) ∈ lw_all := lw_g (lw_at lw_m7 35 rfl) rfl
theorem q1591 : (Jvm.Cond.methodLink "java/util/Arrays" (300 : Nat) ({ cls := "java/util/Arrays", name := "copyOf", desc := "([Ljava/lang/Object;ILjava/lang/Class;)[Ljava/lang/Object;" } : Jvm.MethodName)) ∈ lw_all := lw_g (lw_at lw_m7 36 rfl) rfl
theorem q1592 : (Jvm.Cond.static ({ cls := "java/util/Arrays", name := "copyOf", desc := "([Ljava/lang/Object;ILjava/lang/Class;)[Ljava/lang/Object;" } : Jvm.MethodName)) ∈ lw_all := lw_g (lw_at lw_m7 37 rfl) rfl
theorem q1593 : (Jvm.Cond.code ({ cls := "java/util/Arrays", name := "copyOf", desc := "([Ljava/lang/Object;ILjava/lang/Class;)[Ljava/lang/Object;" } : Jvm.MethodName) prog_48_method_120_code (4 : Nat) (Option.some (Jvm.ClassFile.FieldType.array (Jvm.ClassFile.FieldType.object "java/lang/Object")))) ∈ lw_all := lw_g (lw_at lw_m7 38 rfl) rfl
theorem q1594 : (Jvm.Cond.classLink "java/util/Arrays" (110 : Nat) "[Ljava/lang/Object;") ∈ lw_all := lw_g (lw_at lw_m7 39 rfl) rfl
theorem q1595 : (Jvm.Cond.classLink "java/util/Arrays" (2 : Nat) "java/lang/Object") ∈ lw_all := lw_g (lw_at lw_m7 40 rfl) rfl
theorem q1708 : (Jvm.Cond.static ({ cls := "java/util/Arrays", name := "copyOf", desc := "([JI)[J" } : Jvm.MethodName)) ∈ lw_all := lw_g (lw_at lw_m7 153 rfl) rfl
theorem q1709 : (Jvm.Cond.code ({ cls := "java/util/Arrays", name := "copyOf", desc := "([JI)[J" } : Jvm.MethodName) prog_48_method_124_code (3 : Nat) (Option.some (Jvm.ClassFile.FieldType.array Jvm.ClassFile.FieldType.long))) ∈ lw_all := lw_g (lw_at lw_m7 154 rfl) rfl
theorem q1710 : (Jvm.Cond.methodLink "java/util/Arrays" (319 : Nat) ({ cls := "[J", name := "clone", desc := "()Ljava/lang/Object;" } : Jvm.MethodName)) ∈ lw_all := lw_g (lw_at lw_m7 155 rfl) rfl
theorem q1714 : (Jvm.Cond.classLink "java/util/Arrays" (320 : Nat) "[J") ∈ lw_all := lw_g (lw_at lw_m7 159 rfl) rfl
/-! java/lang/StringLatin1 -/
set_option maxRecDepth 100000
def RJ19 : String := "java/lang/StringLatin1"
abbrev cJ19_charAt : ByteArray := prog_34_method_2_code
def yJ19_charAt : MethodName := ⟨RJ19, "charAt", "([BI)C"⟩
def dkwJ19_charAt_0 : List UInt8 := [27, 42, 190, 184, 0, 9, 42, 27, 51, 17, 0, 255, 126, 146, 172]
abbrev dktJ19_charAt_0 : List UInt8 := dkwJ19_charAt_0 ++ []
theorem dksJ19_charAt_0 : cJ19_charAt.data.toList.drop 0 = dktJ19_charAt_0 := by decide +kernel
theorem dJ19_charAt_0 : decode cJ19_charAt 0 = .ok (.iload_n 1, 1) := dk_27 (dk_at dksJ19_charAt_0 0 rfl rfl)
theorem dJ19_charAt_1 : decode cJ19_charAt 1 = .ok (.aload_n 0, 1) := dk_42 (dk_at dksJ19_charAt_0 1 rfl rfl)
theorem dJ19_charAt_2 : decode cJ19_charAt 2 = .ok (.arraylength, 1) := dk_190 (dk_at dksJ19_charAt_0 2 rfl rfl)
theorem dJ19_charAt_3 : decode cJ19_charAt 3 = .ok (.invokestatic 9, 3) := dk_184 0 9 (dk_at dksJ19_charAt_0 3 rfl rfl)
theorem dJ19_charAt_6 : decode cJ19_charAt 6 = .ok (.aload_n 0, 1) := dk_42 (dk_at dksJ19_charAt_0 6 rfl rfl)
theorem dJ19_charAt_7 : decode cJ19_charAt 7 = .ok (.iload_n 1, 1) := dk_27 (dk_at dksJ19_charAt_0 7 rfl rfl)
theorem dJ19_charAt_8 : decode cJ19_charAt 8 = .ok (.baload, 1) := dk_51 (dk_at dksJ19_charAt_0 8 rfl rfl)
theorem dJ19_charAt_9 : decode cJ19_charAt 9 = .ok (.sipush 255, 3) := dk_17 0 255 (dk_at dksJ19_charAt_0 9 rfl rfl)
theorem dJ19_charAt_12 : decode cJ19_charAt 12 = .ok (.iand, 1) := dk_126 (dk_at dksJ19_charAt_0 12 rfl rfl)
theorem dJ19_charAt_13 : decode cJ19_charAt 13 = .ok (.i2c, 1) := dk_146 (dk_at dksJ19_charAt_0 13 rfl rfl)
theorem dJ19_charAt_14 : decode cJ19_charAt 14 = .ok (.ireturn, 1) := dk_172 (dk_at dksJ19_charAt_0 14 rfl rfl)
abbrev cJ19_canEncode : ByteArray := prog_34_method_3_code
def yJ19_canEncode : MethodName := ⟨RJ19, "canEncode", "(C)Z"⟩
def dkwJ19_canEncode_0 : List UInt8 := [26, 17, 0, 255, 163, 0, 7, 4, 167, 0, 4, 3, 172]
abbrev dktJ19_canEncode_0 : List UInt8 := dkwJ19_canEncode_0 ++ []
theorem dksJ19_canEncode_0 : cJ19_canEncode.data.toList.drop 0 = dktJ19_canEncode_0 := by decide +kernel
theorem dJ19_canEncode_0 : decode cJ19_canEncode 0 = .ok (.iload_n 0, 1) := dk_26 (dk_at dksJ19_canEncode_0 0 rfl rfl)
theorem dJ19_canEncode_1 : decode cJ19_canEncode 1 = .ok (.sipush 255, 3) := dk_17 0 255 (dk_at dksJ19_canEncode_0 1 rfl rfl)
theorem dJ19_canEncode_4 : decode cJ19_canEncode 4 = .ok (.if_icmp .gt 7, 3) := dk_163 0 7 (dk_at dksJ19_canEncode_0 4 rfl rfl)
theorem dJ19_canEncode_7 : decode cJ19_canEncode 7 = .ok (.iconst 1, 1) := dk_4 (dk_at dksJ19_canEncode_0 7 rfl rfl)
theorem dJ19_canEncode_8 : decode cJ19_canEncode 8 = .ok (.goto 4, 3) := dk_167 0 4 (dk_at dksJ19_canEncode_0 8 rfl rfl)
theorem dJ19_canEncode_11 : decode cJ19_canEncode 11 = .ok (.iconst 0, 1) := dk_3 (dk_at dksJ19_canEncode_0 11 rfl rfl)
theorem dJ19_canEncode_12 : decode cJ19_canEncode 12 = .ok (.ireturn, 1) := dk_172 (dk_at dksJ19_canEncode_0 12 rfl rfl)
abbrev cJ19_inflate : ByteArray := prog_34_method_50_code
def yJ19_inflate : MethodName := ⟨RJ19, "inflate", "([BI[BII)V"⟩
def dkwJ19_inflate_0 : List UInt8 := [42, 27, 44, 29, 21, 4, 184, 0, 240, 177]
abbrev dktJ19_inflate_0 : List UInt8 := dkwJ19_inflate_0 ++ []
theorem dksJ19_inflate_0 : cJ19_inflate.data.toList.drop 0 = dktJ19_inflate_0 := by decide +kernel
theorem dJ19_inflate_0 : decode cJ19_inflate 0 = .ok (.aload_n 0, 1) := dk_42 (dk_at dksJ19_inflate_0 0 rfl rfl)
theorem dJ19_inflate_1 : decode cJ19_inflate 1 = .ok (.iload_n 1, 1) := dk_27 (dk_at dksJ19_inflate_0 1 rfl rfl)
theorem dJ19_inflate_2 : decode cJ19_inflate 2 = .ok (.aload_n 2, 1) := dk_44 (dk_at dksJ19_inflate_0 2 rfl rfl)
theorem dJ19_inflate_3 : decode cJ19_inflate 3 = .ok (.iload_n 3, 1) := dk_29 (dk_at dksJ19_inflate_0 3 rfl rfl)
theorem dJ19_inflate_4 : decode cJ19_inflate 4 = .ok (.iload 4, 2) := dk_21 4 (dk_at dksJ19_inflate_0 4 rfl rfl)
theorem dJ19_inflate_6 : decode cJ19_inflate 6 = .ok (.invokestatic 240, 3) := dk_184 0 240 (dk_at dksJ19_inflate_0 6 rfl rfl)
theorem dJ19_inflate_9 : decode cJ19_inflate 9 = .ok (.return_, 1) := dk_177 (dk_at dksJ19_inflate_0 9 rfl rfl)
abbrev cJ19_equals : ByteArray := prog_34_method_13_code
def yJ19_equals : MethodName := ⟨RJ19, "equals", "([B[B)Z"⟩
def dkwJ19_equals_1 : List UInt8 := [3, 172, 132, 2, 1, 167, 255, 236, 4, 172, 3, 172]
abbrev dktJ19_equals_1 : List UInt8 := dkwJ19_equals_1 ++ []
def dkwJ19_equals_0 : List UInt8 := [42, 190, 43, 190, 160, 0, 30, 3, 61, 28, 42, 190, 162, 0, 20, 42, 28, 51, 43, 28, 51, 159, 0, 5]
abbrev dktJ19_equals_0 : List UInt8 := dkwJ19_equals_0 ++ dktJ19_equals_1
theorem dksJ19_equals_0 : cJ19_equals.data.toList.drop 0 = dktJ19_equals_0 := by decide +kernel
theorem dksJ19_equals_1 : cJ19_equals.data.toList.drop 24 = dktJ19_equals_1 := dk_seg dksJ19_equals_0 24 rfl rfl
theorem dJ19_equals_0 : decode cJ19_equals 0 = .ok (.aload_n 0, 1) := dk_42 (dk_at dksJ19_equals_0 0 rfl rfl)
theorem dJ19_equals_1 : decode cJ19_equals 1 = .ok (.arraylength, 1) := dk_190 (dk_at dksJ19_equals_0 1 rfl rfl)
theorem dJ19_equals_2 : decode cJ19_equals 2 = .ok (.aload_n 1, 1) := dk_43 (dk_at dksJ19_equals_0 2 rfl rfl)
theorem dJ19_equals_3 : decode cJ19_equals 3 = .ok (.arraylength, 1) := dk_190 (dk_at dksJ19_equals_0 3 rfl rfl)
theorem dJ19_equals_4 : decode cJ19_equals 4 = .ok (.if_icmp .ne 30, 3) := dk_160 0 30 (dk_at dksJ19_equals_0 4 rfl rfl)
theorem dJ19_equals_7 : decode cJ19_equals 7 = .ok (.iconst 0, 1) := dk_3 (dk_at dksJ19_equals_0 7 rfl rfl)
theorem dJ19_equals_8 : decode cJ19_equals 8 = .ok (.istore_n 2, 1) := dk_61 (dk_at dksJ19_equals_0 8 rfl rfl)
theorem dJ19_equals_9 : decode cJ19_equals 9 = .ok (.iload_n 2, 1) := dk_28 (dk_at dksJ19_equals_0 9 rfl rfl)
theorem dJ19_equals_10 : decode cJ19_equals 10 = .ok (.aload_n 0, 1) := dk_42 (dk_at dksJ19_equals_0 10 rfl rfl)
theorem dJ19_equals_11 : decode cJ19_equals 11 = .ok (.arraylength, 1) := dk_190 (dk_at dksJ19_equals_0 11 rfl rfl)
theorem dJ19_equals_12 : decode cJ19_equals 12 = .ok (.if_icmp .ge 20, 3) := dk_162 0 20 (dk_at dksJ19_equals_0 12 rfl rfl)
theorem dJ19_equals_15 : decode cJ19_equals 15 = .ok (.aload_n 0, 1) := dk_42 (dk_at dksJ19_equals_0 15 rfl rfl)
theorem dJ19_equals_16 : decode cJ19_equals 16 = .ok (.iload_n 2, 1) := dk_28 (dk_at dksJ19_equals_0 16 rfl rfl)
theorem dJ19_equals_17 : decode cJ19_equals 17 = .ok (.baload, 1) := dk_51 (dk_at dksJ19_equals_0 17 rfl rfl)
theorem dJ19_equals_18 : decode cJ19_equals 18 = .ok (.aload_n 1, 1) := dk_43 (dk_at dksJ19_equals_0 18 rfl rfl)
theorem dJ19_equals_19 : decode cJ19_equals 19 = .ok (.iload_n 2, 1) := dk_28 (dk_at dksJ19_equals_0 19 rfl rfl)
theorem dJ19_equals_20 : decode cJ19_equals 20 = .ok (.baload, 1) := dk_51 (dk_at dksJ19_equals_0 20 rfl rfl)
theorem dJ19_equals_21 : decode cJ19_equals 21 = .ok (.if_icmp .eq 5, 3) := dk_159 0 5 (dk_at dksJ19_equals_0 21 rfl rfl)
theorem dJ19_equals_24 : decode cJ19_equals 24 = .ok (.iconst 0, 1) := dk_3 (dk_at dksJ19_equals_1 0 rfl rfl)
theorem dJ19_equals_25 : decode cJ19_equals 25 = .ok (.ireturn, 1) := dk_172 (dk_at dksJ19_equals_1 1 rfl rfl)
theorem dJ19_equals_26 : decode cJ19_equals 26 = .ok (.iinc 2 1, 3) := dk_132 2 1 (dk_at dksJ19_equals_1 2 rfl rfl)
theorem dJ19_equals_29 : decode cJ19_equals 29 = .ok (.goto (-20), 3) := dk_167 255 236 (dk_at dksJ19_equals_1 5 rfl rfl)
theorem dJ19_equals_32 : decode cJ19_equals 32 = .ok (.iconst 1, 1) := dk_4 (dk_at dksJ19_equals_1 8 rfl rfl)
theorem dJ19_equals_33 : decode cJ19_equals 33 = .ok (.ireturn, 1) := dk_172 (dk_at dksJ19_equals_1 9 rfl rfl)
theorem dJ19_equals_34 : decode cJ19_equals 34 = .ok (.iconst 0, 1) := dk_3 (dk_at dksJ19_equals_1 10 rfl rfl)
theorem dJ19_equals_35 : decode cJ19_equals 35 = .ok (.ireturn, 1) := dk_172 (dk_at dksJ19_equals_1 11 rfl rfl)
abbrev cJ19_hashCode : ByteArray := prog_34_method_21_code
def yJ19_hashCode : MethodName := ⟨RJ19, "hashCode", "([B)I"⟩
def dkwJ19_hashCode_2 : List UInt8 := [3, 167, 0, 22, 42, 3, 51, 17, 0, 255, 126, 167, 0, 12, 42, 3, 42, 190, 3, 7, 184, 0, 84, 172]
abbrev dktJ19_hashCode_2 : List UInt8 := dkwJ19_hashCode_2 ++ []
def dkwJ19_hashCode_1 : List UInt8 := [171, 0, 0, 0, 0, 40, 0, 0, 0, 2, 0, 0, 0, 0, 0, 0, 0, 26, 0, 0, 0, 1, 0, 0, 0, 30]
abbrev dktJ19_hashCode_1 : List UInt8 := dkwJ19_hashCode_1 ++ dktJ19_hashCode_2
def dkwJ19_hashCode_0 : List UInt8 := [42, 190]
abbrev dktJ19_hashCode_0 : List UInt8 := dkwJ19_hashCode_0 ++ dktJ19_hashCode_1
theorem dksJ19_hashCode_0 : cJ19_hashCode.data.toList.drop 0 = dktJ19_hashCode_0 := by decide +kernel
theorem dksJ19_hashCode_1 : cJ19_hashCode.data.toList.drop 2 = dktJ19_hashCode_1 := dk_seg dksJ19_hashCode_0 2 rfl rfl
theorem dksJ19_hashCode_2 : cJ19_hashCode.data.toList.drop 28 = dktJ19_hashCode_2 := dk_seg dksJ19_hashCode_1 26 rfl rfl
theorem dJ19_hashCode_0 : decode cJ19_hashCode 0 = .ok (.aload_n 0, 1) := dk_42 (dk_at dksJ19_hashCode_0 0 rfl rfl)
theorem dJ19_hashCode_1 : decode cJ19_hashCode 1 = .ok (.arraylength, 1) := dk_190 (dk_at dksJ19_hashCode_0 1 rfl rfl)
theorem dJ19_hashCode_2 : decode cJ19_hashCode 2 = .ok (.lookupswitch 40 #[(0, 26), (1, 30)], 26) := by decide +kernel
theorem dJ19_hashCode_28 : decode cJ19_hashCode 28 = .ok (.iconst 0, 1) := dk_3 (dk_at dksJ19_hashCode_2 0 rfl rfl)
theorem dJ19_hashCode_29 : decode cJ19_hashCode 29 = .ok (.goto 22, 3) := dk_167 0 22 (dk_at dksJ19_hashCode_2 1 rfl rfl)
theorem dJ19_hashCode_32 : decode cJ19_hashCode 32 = .ok (.aload_n 0, 1) := dk_42 (dk_at dksJ19_hashCode_2 4 rfl rfl)
theorem dJ19_hashCode_33 : decode cJ19_hashCode 33 = .ok (.iconst 0, 1) := dk_3 (dk_at dksJ19_hashCode_2 5 rfl rfl)
theorem dJ19_hashCode_34 : decode cJ19_hashCode 34 = .ok (.baload, 1) := dk_51 (dk_at dksJ19_hashCode_2 6 rfl rfl)
theorem dJ19_hashCode_35 : decode cJ19_hashCode 35 = .ok (.sipush 255, 3) := dk_17 0 255 (dk_at dksJ19_hashCode_2 7 rfl rfl)
theorem dJ19_hashCode_38 : decode cJ19_hashCode 38 = .ok (.iand, 1) := dk_126 (dk_at dksJ19_hashCode_2 10 rfl rfl)
theorem dJ19_hashCode_39 : decode cJ19_hashCode 39 = .ok (.goto 12, 3) := dk_167 0 12 (dk_at dksJ19_hashCode_2 11 rfl rfl)
theorem dJ19_hashCode_42 : decode cJ19_hashCode 42 = .ok (.aload_n 0, 1) := dk_42 (dk_at dksJ19_hashCode_2 14 rfl rfl)
theorem dJ19_hashCode_43 : decode cJ19_hashCode 43 = .ok (.iconst 0, 1) := dk_3 (dk_at dksJ19_hashCode_2 15 rfl rfl)
theorem dJ19_hashCode_44 : decode cJ19_hashCode 44 = .ok (.aload_n 0, 1) := dk_42 (dk_at dksJ19_hashCode_2 16 rfl rfl)
theorem dJ19_hashCode_45 : decode cJ19_hashCode 45 = .ok (.arraylength, 1) := dk_190 (dk_at dksJ19_hashCode_2 17 rfl rfl)
theorem dJ19_hashCode_46 : decode cJ19_hashCode 46 = .ok (.iconst 0, 1) := dk_3 (dk_at dksJ19_hashCode_2 18 rfl rfl)
theorem dJ19_hashCode_47 : decode cJ19_hashCode 47 = .ok (.iconst 4, 1) := dk_7 (dk_at dksJ19_hashCode_2 19 rfl rfl)
theorem dJ19_hashCode_48 : decode cJ19_hashCode 48 = .ok (.invokestatic 84, 3) := dk_184 0 84 (dk_at dksJ19_hashCode_2 20 rfl rfl)
theorem dJ19_hashCode_51 : decode cJ19_hashCode 51 = .ok (.ireturn, 1) := dk_172 (dk_at dksJ19_hashCode_2 23 rfl rfl)
abbrev cJ19_newString : ByteArray := prog_34_method_47_code
def yJ19_newString : MethodName := ⟨RJ19, "newString", "([BII)Ljava/lang/String;"⟩
def dkwJ19_newString_0 : List UInt8 := [28, 154, 0, 6, 18, 151, 176, 187, 0, 1, 89, 42, 27, 27, 28, 96, 184, 0, 232, 3, 183, 0, 112, 176]
abbrev dktJ19_newString_0 : List UInt8 := dkwJ19_newString_0 ++ []
theorem dksJ19_newString_0 : cJ19_newString.data.toList.drop 0 = dktJ19_newString_0 := by decide +kernel
theorem dJ19_newString_0 : decode cJ19_newString 0 = .ok (.iload_n 2, 1) := dk_28 (dk_at dksJ19_newString_0 0 rfl rfl)
theorem dJ19_newString_1 : decode cJ19_newString 1 = .ok (.ifCond .ne 6, 3) := dk_154 0 6 (dk_at dksJ19_newString_0 1 rfl rfl)
theorem dJ19_newString_4 : decode cJ19_newString 4 = .ok (.ldc 151, 2) := dk_18 151 (dk_at dksJ19_newString_0 4 rfl rfl)
theorem dJ19_newString_6 : decode cJ19_newString 6 = .ok (.areturn, 1) := dk_176 (dk_at dksJ19_newString_0 6 rfl rfl)
theorem dJ19_newString_7 : decode cJ19_newString 7 = .ok (.new 1, 3) := dk_187 0 1 (dk_at dksJ19_newString_0 7 rfl rfl)
theorem dJ19_newString_10 : decode cJ19_newString 10 = .ok (.dup, 1) := dk_89 (dk_at dksJ19_newString_0 10 rfl rfl)
theorem dJ19_newString_11 : decode cJ19_newString 11 = .ok (.aload_n 0, 1) := dk_42 (dk_at dksJ19_newString_0 11 rfl rfl)
theorem dJ19_newString_12 : decode cJ19_newString 12 = .ok (.iload_n 1, 1) := dk_27 (dk_at dksJ19_newString_0 12 rfl rfl)
theorem dJ19_newString_13 : decode cJ19_newString 13 = .ok (.iload_n 1, 1) := dk_27 (dk_at dksJ19_newString_0 13 rfl rfl)
theorem dJ19_newString_14 : decode cJ19_newString 14 = .ok (.iload_n 2, 1) := dk_28 (dk_at dksJ19_newString_0 14 rfl rfl)
theorem dJ19_newString_15 : decode cJ19_newString 15 = .ok (.iadd, 1) := dk_96 (dk_at dksJ19_newString_0 15 rfl rfl)
theorem dJ19_newString_16 : decode cJ19_newString 16 = .ok (.invokestatic 232, 3) := dk_184 0 232 (dk_at dksJ19_newString_0 16 rfl rfl)
theorem dJ19_newString_19 : decode cJ19_newString 19 = .ok (.iconst 0, 1) := dk_3 (dk_at dksJ19_newString_0 19 rfl rfl)
theorem dJ19_newString_20 : decode cJ19_newString 20 = .ok (.invokespecial 112, 3) := dk_183 0 112 (dk_at dksJ19_newString_0 20 rfl rfl)
theorem dJ19_newString_23 : decode cJ19_newString 23 = .ok (.areturn, 1) := dk_176 (dk_at dksJ19_newString_0 23 rfl rfl)
theorem q141 : (Jvm.Cond.initialized "java/lang/StringLatin1") ∈ lw_all := lw_g (lw_at lw_m1 26 rfl) rfl
theorem q479 : (Jvm.Cond.static ({ cls := "java/lang/StringLatin1", name := "charAt", desc := "([BI)C" } : Jvm.MethodName)) ∈ lw_all := lw_g (lw_at lw_m2 124 rfl) rfl
theorem q480 : (Jvm.Cond.code ({ cls := "java/lang/StringLatin1", name := "charAt", desc := "([BI)C" } : Jvm.MethodName) prog_34_method_2_code (2 : Nat) (Option.some Jvm.ClassFile.FieldType.char)) ∈ lw_all := lw_g (lw_at lw_m2 125 rfl) rfl
theorem q481 : (Jvm.Cond.methodLink "java/lang/StringLatin1" (9 : Nat) ({ cls := "java/lang/String", name := "checkIndex", desc := "(II)V" } : Jvm.MethodName)) ∈ lw_all := lw_g (lw_at lw_m2 126 rfl) rfl
theorem q848 : (Jvm.Cond.static ({ cls := "java/lang/StringLatin1", name := "canEncode", desc := "(C)Z" } : Jvm.MethodName)) ∈ lw_all := lw_g (lw_at lw_m4 13 rfl) rfl
theorem q849 : (Jvm.Cond.code ({ cls := "java/lang/StringLatin1", name := "canEncode", desc := "(C)Z" } : Jvm.MethodName) prog_34_method_3_code (1 : Nat) (Option.some Jvm.ClassFile.FieldType.boolean)) ∈ lw_all := lw_g (lw_at lw_m4 14 rfl) rfl
theorem q855 : (Jvm.Cond.static ({ cls := "java/lang/StringLatin1", name := "inflate", desc := "([BI[BII)V" } : Jvm.MethodName)) ∈ lw_all := lw_g (lw_at lw_m4 20 rfl) rfl
theorem q856 : (Jvm.Cond.code ({ cls := "java/lang/StringLatin1", name := "inflate", desc := "([BI[BII)V" } : Jvm.MethodName) prog_34_method_50_code (5 : Nat) (Option.none : Option Jvm.ClassFile.FieldType)) ∈ lw_all := lw_g (lw_at lw_m4 21 rfl) rfl
theorem q857 : (Jvm.Cond.methodLink "java/lang/StringLatin1" (240 : Nat) ({ cls := "java/lang/StringUTF16", name := "inflate", desc := "([BI[BII)V" } : Jvm.MethodName)) ∈ lw_all := lw_g (lw_at lw_m4 22 rfl) rfl
theorem q1031 : (Jvm.Cond.static ({ cls := "java/lang/StringLatin1", name := "equals", desc := "([B[B)Z" } : Jvm.MethodName)) ∈ lw_all := lw_g (lw_at lw_m4 196 rfl) rfl
theorem q1032 : (Jvm.Cond.code ({ cls := "java/lang/StringLatin1", name := "equals", desc := "([B[B)Z" } : Jvm.MethodName) prog_34_method_13_code (3 : Nat) (Option.some Jvm.ClassFile.FieldType.boolean)) ∈ lw_all := lw_g (lw_at lw_m4 197 rfl) rfl
theorem q1078 : (Jvm.Cond.static ({ cls := "java/lang/StringLatin1", name := "hashCode", desc := "([B)I" } : Jvm.MethodName)) ∈ lw_all := lw_g (lw_at lw_m5 3 rfl) rfl
theorem q1079 : (Jvm.Cond.code ({ cls := "java/lang/StringLatin1", name := "hashCode", desc := "([B)I" } : Jvm.MethodName) prog_34_method_21_code (1 : Nat) (Option.some Jvm.ClassFile.FieldType.int)) ∈ lw_all := lw_g (lw_at lw_m5 4 rfl) rfl
theorem q1080 : (Jvm.Cond.methodLink "java/lang/StringLatin1" (84 : Nat) ({ cls := "jdk/internal/util/ArraysSupport", name := "vectorizedHashCode", desc := "(Ljava/lang/Object;IIII)I" } : Jvm.MethodName)) ∈ lw_all := lw_g (lw_at lw_m5 5 rfl) rfl
theorem q2202 : (Jvm.Cond.static ({ cls := "java/lang/StringLatin1", name := "newString", desc := "([BII)Ljava/lang/String;" } : Jvm.MethodName)) ∈ lw_all := lw_g (lw_at lw_m9 167 rfl) rfl
theorem q2203 : (Jvm.Cond.code ({ cls := "java/lang/StringLatin1", name := "newString", desc := "([BII)Ljava/lang/String;" } : Jvm.MethodName) prog_34_method_47_code (3 : Nat) (Option.some (Jvm.ClassFile.FieldType.object "java/lang/String"))) ∈ lw_all := lw_g (lw_at lw_m9 168 rfl) rfl
theorem q2204 : (Jvm.Cond.stringRef "java/lang/StringLatin1" (151 : Nat) "") ∈ lw_tbl := lw_at lw_m9 169 rfl
theorem q2205 : (Jvm.Cond.classLink "java/lang/StringLatin1" (1 : Nat) "java/lang/String") ∈ lw_all := lw_g (lw_at lw_m9 170 rfl) rfl
theorem q2206 : (Jvm.Cond.methodLink "java/lang/StringLatin1" (232 : Nat) ({ cls := "java/util/Arrays", name := "copyOfRange", desc := "([BII)[B" } : Jvm.MethodName)) ∈ lw_all := lw_g (lw_at lw_m9 171 rfl) rfl
theorem q2207 : (Jvm.Cond.methodLink "java/lang/StringLatin1" (112 : Nat) ({ cls := "java/lang/String", name := "<init>", desc := "([BB)V" } : Jvm.MethodName)) ∈ lw_all := lw_g (lw_at lw_m9 172 rfl) rfl
/-! java/util/AbstractSequentialList -/
set_option maxRecDepth 100000
def RJ2 : String := "java/util/AbstractSequentialList"
abbrev cJ2_init : ByteArray := prog_45_method_1_code
def yJ2_init : MethodName := ⟨RJ2, "<init>", "()V"⟩
theorem dJ2_init_0 : decode cJ2_init 0 = .ok (.aload_n 0, 1) := by decide +kernel
theorem dJ2_init_1 : decode cJ2_init 1 = .ok (.invokespecial 1, 3) := by decide +kernel
theorem dJ2_init_4 : decode cJ2_init 4 = .ok (.return_, 1) := by decide +kernel
abbrev cJ2_iterator : ByteArray := prog_45_method_7_code
def yJ2_iterator : MethodName := ⟨RJ2, "iterator", "()Ljava/util/Iterator;"⟩
theorem dJ2_iterator_0 : decode cJ2_iterator 0 = .ok (.aload_n 0, 1) := by decide +kernel
theorem dJ2_iterator_1 : decode cJ2_iterator 1 = .ok (.invokevirtual 65, 3) := by decide +kernel
theorem dJ2_iterator_4 : decode cJ2_iterator 4 = .ok (.areturn, 1) := by decide +kernel
theorem q120 : (Jvm.Cond.initialized "java/util/AbstractSequentialList") ∈ lw_all := lw_g (lw_at lw_m1 5 rfl) rfl
theorem q188 : (Jvm.Cond.instanceMethod ({ cls := "java/util/AbstractSequentialList", name := "<init>", desc := "()V" } : Jvm.MethodName)) ∈ lw_all := lw_g (lw_at lw_m1 73 rfl) rfl
theorem q189 : (Jvm.Cond.code ({ cls := "java/util/AbstractSequentialList", name := "<init>", desc := "()V" } : Jvm.MethodName) prog_45_method_1_code (1 : Nat) (Option.none : Option Jvm.ClassFile.FieldType)) ∈ lw_all := lw_g (lw_at lw_m1 74 rfl) rfl
theorem q190 : (Jvm.Cond.methodLink "java/util/AbstractSequentialList" (1 : Nat) ({ cls := "java/util/AbstractList", name := "<init>", desc := "()V" } : Jvm.MethodName)) ∈ lw_all := lw_g (lw_at lw_m1 75 rfl) rfl
theorem q1237 : (Jvm.Cond.declares ({ cls := "java/util/AbstractSequentialList", name := "iterator", desc := "()Ljava/util/Iterator;" } : Jvm.MethodName)) ∈ lw_tbl := lw_at lw_m5 162 rfl
theorem q1239 : (Jvm.Cond.instanceMethod ({ cls := "java/util/AbstractSequentialList", name := "iterator", desc := "()Ljava/util/Iterator;" } : Jvm.MethodName)) ∈ lw_all := lw_g (lw_at lw_m5 164 rfl) rfl
theorem q1240 : (Jvm.Cond.code ({ cls := "java/util/AbstractSequentialList", name := "iterator", desc := "()Ljava/util/Iterator;" } : Jvm.MethodName) prog_45_method_7_code (1 : Nat) (Option.some (Jvm.ClassFile.FieldType.object "java/util/Iterator"))) ∈ lw_all := lw_g (lw_at lw_m5 165 rfl) rfl
theorem q1241 : (Jvm.Cond.methodLink "java/util/AbstractSequentialList" (65 : Nat) ({ cls := "java/util/AbstractSequentialList", name := "listIterator", desc := "()Ljava/util/ListIterator;" } : Jvm.MethodName)) ∈ lw_all := lw_g (lw_at lw_m5 166 rfl) rfl
theorem q1242 : (Jvm.Cond.sameMethod "java/util/AbstractSequentialList" "java/util/AbstractList" "listIterator" "()Ljava/util/ListIterator;") ∈ lw_all := lw_g (lw_at lw_m5 167 rfl) rfl
/-! jdk/internal/util/Preconditions -/
set_option maxRecDepth 100000
def RJ20 : String := "jdk/internal/util/Preconditions"
abbrev cJ20_checkIndex : ByteArray := prog_71_method_11_code
def yJ20_checkIndex : MethodName := ⟨RJ20, "checkIndex", "(IILjava/util/function/BiFunction;)I"⟩
def dkwJ20_checkIndex_0 : List UInt8 := [26, 155, 0, 8, 26, 27, 161, 0, 10, 44, 26, 27, 184, 0, 95, 191, 26, 172]
abbrev dktJ20_checkIndex_0 : List UInt8 := dkwJ20_checkIndex_0 ++ []
theorem dksJ20_checkIndex_0 : cJ20_checkIndex.data.toList.drop 0 = dktJ20_checkIndex_0 := by decide +kernel
theorem dJ20_checkIndex_0 : decode cJ20_checkIndex 0 = .ok (.iload_n 0, 1) := dk_26 (dk_at dksJ20_checkIndex_0 0 rfl rfl)
theorem dJ20_checkIndex_1 : decode cJ20_checkIndex 1 = .ok (.ifCond .lt 8, 3) := dk_155 0 8 (dk_at dksJ20_checkIndex_0 1 rfl rfl)
theorem dJ20_checkIndex_4 : decode cJ20_checkIndex 4 = .ok (.iload_n 0, 1) := dk_26 (dk_at dksJ20_checkIndex_0 4 rfl rfl)
theorem dJ20_checkIndex_5 : decode cJ20_checkIndex 5 = .ok (.iload_n 1, 1) := dk_27 (dk_at dksJ20_checkIndex_0 5 rfl rfl)
theorem dJ20_checkIndex_6 : decode cJ20_checkIndex 6 = .ok (.if_icmp .lt 10, 3) := dk_161 0 10 (dk_at dksJ20_checkIndex_0 6 rfl rfl)
theorem dJ20_checkIndex_9 : decode cJ20_checkIndex 9 = .ok (.aload_n 2, 1) := dk_44 (dk_at dksJ20_checkIndex_0 9 rfl rfl)
theorem dJ20_checkIndex_10 : decode cJ20_checkIndex 10 = .ok (.iload_n 0, 1) := dk_26 (dk_at dksJ20_checkIndex_0 10 rfl rfl)
theorem dJ20_checkIndex_11 : decode cJ20_checkIndex 11 = .ok (.iload_n 1, 1) := dk_27 (dk_at dksJ20_checkIndex_0 11 rfl rfl)
theorem dJ20_checkIndex_12 : decode cJ20_checkIndex 12 = .ok (.invokestatic 95, 3) := dk_184 0 95 (dk_at dksJ20_checkIndex_0 12 rfl rfl)
theorem dJ20_checkIndex_15 : decode cJ20_checkIndex 15 = .ok (.athrow, 1) := dk_191 (dk_at dksJ20_checkIndex_0 15 rfl rfl)
theorem dJ20_checkIndex_16 : decode cJ20_checkIndex 16 = .ok (.iload_n 0, 1) := dk_26 (dk_at dksJ20_checkIndex_0 16 rfl rfl)
theorem dJ20_checkIndex_17 : decode cJ20_checkIndex 17 = .ok (.ireturn, 1) := dk_172 (dk_at dksJ20_checkIndex_0 17 rfl rfl)
abbrev cJ20_checkFromIndexSize : ByteArray := prog_71_method_13_code
def yJ20_checkFromIndexSize : MethodName := ⟨RJ20, "checkFromIndexSize", "(IIILjava/util/function/BiFunction;)I"⟩
def dkwJ20_checkFromIndexSize_1 : List UInt8 := [172]
abbrev dktJ20_checkFromIndexSize_1 : List UInt8 := dkwJ20_checkFromIndexSize_1 ++ []
def dkwJ20_checkFromIndexSize_0 : List UInt8 := [28, 26, 128, 27, 128, 155, 0, 10, 27, 28, 26, 100, 164, 0, 11, 45, 26, 27, 28, 184, 0, 103, 191, 26]
abbrev dktJ20_checkFromIndexSize_0 : List UInt8 := dkwJ20_checkFromIndexSize_0 ++ dktJ20_checkFromIndexSize_1
theorem dksJ20_checkFromIndexSize_0 : cJ20_checkFromIndexSize.data.toList.drop 0 = dktJ20_checkFromIndexSize_0 := by decide +kernel
theorem dksJ20_checkFromIndexSize_1 : cJ20_checkFromIndexSize.data.toList.drop 24 = dktJ20_checkFromIndexSize_1 := dk_seg dksJ20_checkFromIndexSize_0 24 rfl rfl
theorem dJ20_checkFromIndexSize_0 : decode cJ20_checkFromIndexSize 0 = .ok (.iload_n 2, 1) := dk_28 (dk_at dksJ20_checkFromIndexSize_0 0 rfl rfl)
theorem dJ20_checkFromIndexSize_1 : decode cJ20_checkFromIndexSize 1 = .ok (.iload_n 0, 1) := dk_26 (dk_at dksJ20_checkFromIndexSize_0 1 rfl rfl)
theorem dJ20_checkFromIndexSize_2 : decode cJ20_checkFromIndexSize 2 = .ok (.ior, 1) := dk_128 (dk_at dksJ20_checkFromIndexSize_0 2 rfl rfl)
theorem dJ20_checkFromIndexSize_3 : decode cJ20_checkFromIndexSize 3 = .ok (.iload_n 1, 1) := dk_27 (dk_at dksJ20_checkFromIndexSize_0 3 rfl rfl)
theorem dJ20_checkFromIndexSize_4 : decode cJ20_checkFromIndexSize 4 = .ok (.ior, 1) := dk_128 (dk_at dksJ20_checkFromIndexSize_0 4 rfl rfl)
theorem dJ20_checkFromIndexSize_5 : decode cJ20_checkFromIndexSize 5 = .ok (.ifCond .lt 10, 3) := dk_155 0 10 (dk_at dksJ20_checkFromIndexSize_0 5 rfl rfl)
theorem dJ20_checkFromIndexSize_8 : decode cJ20_checkFromIndexSize 8 = .ok (.iload_n 1, 1) := dk_27 (dk_at dksJ20_checkFromIndexSize_0 8 rfl rfl)
theorem dJ20_checkFromIndexSize_9 : decode cJ20_checkFromIndexSize 9 = .ok (.iload_n 2, 1) := dk_28 (dk_at dksJ20_checkFromIndexSize_0 9 rfl rfl)
theorem dJ20_checkFromIndexSize_10 : decode cJ20_checkFromIndexSize 10 = .ok (.iload_n 0, 1) := dk_26 (dk_at dksJ20_checkFromIndexSize_0 10 rfl rfl)
theorem dJ20_checkFromIndexSize_11 : decode cJ20_checkFromIndexSize 11 = .ok (.isub, 1) := dk_100 (dk_at dksJ20_checkFromIndexSize_0 11 rfl rfl)
theorem dJ20_checkFromIndexSize_12 : decode cJ20_checkFromIndexSize 12 = .ok (.if_icmp .le 11, 3) := dk_164 0 11 (dk_at dksJ20_checkFromIndexSize_0 12 rfl rfl)
theorem dJ20_checkFromIndexSize_15 : decode cJ20_checkFromIndexSize 15 = .ok (.aload_n 3, 1) := dk_45 (dk_at dksJ20_checkFromIndexSize_0 15 rfl rfl)
theorem dJ20_checkFromIndexSize_16 : decode cJ20_checkFromIndexSize 16 = .ok (.iload_n 0, 1) := dk_26 (dk_at dksJ20_checkFromIndexSize_0 16 rfl rfl)
theorem dJ20_checkFromIndexSize_17 : decode cJ20_checkFromIndexSize 17 = .ok (.iload_n 1, 1) := dk_27 (dk_at dksJ20_checkFromIndexSize_0 17 rfl rfl)
theorem dJ20_checkFromIndexSize_18 : decode cJ20_checkFromIndexSize 18 = .ok (.iload_n 2, 1) := dk_28 (dk_at dksJ20_checkFromIndexSize_0 18 rfl rfl)
theorem dJ20_checkFromIndexSize_19 : decode cJ20_checkFromIndexSize 19 = .ok (.invokestatic 103, 3) := dk_184 0 103 (dk_at dksJ20_checkFromIndexSize_0 19 rfl rfl)
theorem dJ20_checkFromIndexSize_22 : decode cJ20_checkFromIndexSize 22 = .ok (.athrow, 1) := dk_191 (dk_at dksJ20_checkFromIndexSize_0 22 rfl rfl)
theorem dJ20_checkFromIndexSize_23 : decode cJ20_checkFromIndexSize 23 = .ok (.iload_n 0, 1) := dk_26 (dk_at dksJ20_checkFromIndexSize_0 23 rfl rfl)
theorem dJ20_checkFromIndexSize_24 : decode cJ20_checkFromIndexSize 24 = .ok (.ireturn, 1) := dk_172 (dk_at dksJ20_checkFromIndexSize_1 0 rfl rfl)
abbrev cJ20_checkFromToIndex : ByteArray := prog_71_method_12_code
def yJ20_checkFromToIndex : MethodName := ⟨RJ20, "checkFromToIndex", "(IIILjava/util/function/BiFunction;)I"⟩
def dkwJ20_checkFromToIndex_0 : List UInt8 := [26, 155, 0, 13, 26, 27, 163, 0, 8, 27, 28, 164, 0, 11, 45, 26, 27, 28, 184, 0, 99, 191, 26, 172]
abbrev dktJ20_checkFromToIndex_0 : List UInt8 := dkwJ20_checkFromToIndex_0 ++ []
theorem dksJ20_checkFromToIndex_0 : cJ20_checkFromToIndex.data.toList.drop 0 = dktJ20_checkFromToIndex_0 := by decide +kernel
theorem dJ20_checkFromToIndex_0 : decode cJ20_checkFromToIndex 0 = .ok (.iload_n 0, 1) := dk_26 (dk_at dksJ20_checkFromToIndex_0 0 rfl rfl)
theorem dJ20_checkFromToIndex_1 : decode cJ20_checkFromToIndex 1 = .ok (.ifCond .lt 13, 3) := dk_155 0 13 (dk_at dksJ20_checkFromToIndex_0 1 rfl rfl)
theorem dJ20_checkFromToIndex_4 : decode cJ20_checkFromToIndex 4 = .ok (.iload_n 0, 1) := dk_26 (dk_at dksJ20_checkFromToIndex_0 4 rfl rfl)
theorem dJ20_checkFromToIndex_5 : decode cJ20_checkFromToIndex 5 = .ok (.iload_n 1, 1) := dk_27 (dk_at dksJ20_checkFromToIndex_0 5 rfl rfl)
theorem dJ20_checkFromToIndex_6 : decode cJ20_checkFromToIndex 6 = .ok (.if_icmp .gt 8, 3) := dk_163 0 8 (dk_at dksJ20_checkFromToIndex_0 6 rfl rfl)
theorem dJ20_checkFromToIndex_9 : decode cJ20_checkFromToIndex 9 = .ok (.iload_n 1, 1) := dk_27 (dk_at dksJ20_checkFromToIndex_0 9 rfl rfl)
theorem dJ20_checkFromToIndex_10 : decode cJ20_checkFromToIndex 10 = .ok (.iload_n 2, 1) := dk_28 (dk_at dksJ20_checkFromToIndex_0 10 rfl rfl)
theorem dJ20_checkFromToIndex_11 : decode cJ20_checkFromToIndex 11 = .ok (.if_icmp .le 11, 3) := dk_164 0 11 (dk_at dksJ20_checkFromToIndex_0 11 rfl rfl)
theorem dJ20_checkFromToIndex_14 : decode cJ20_checkFromToIndex 14 = .ok (.aload_n 3, 1) := dk_45 (dk_at dksJ20_checkFromToIndex_0 14 rfl rfl)
theorem dJ20_checkFromToIndex_15 : decode cJ20_checkFromToIndex 15 = .ok (.iload_n 0, 1) := dk_26 (dk_at dksJ20_checkFromToIndex_0 15 rfl rfl)
theorem dJ20_checkFromToIndex_16 : decode cJ20_checkFromToIndex 16 = .ok (.iload_n 1, 1) := dk_27 (dk_at dksJ20_checkFromToIndex_0 16 rfl rfl)
theorem dJ20_checkFromToIndex_17 : decode cJ20_checkFromToIndex 17 = .ok (.iload_n 2, 1) := dk_28 (dk_at dksJ20_checkFromToIndex_0 17 rfl rfl)
theorem dJ20_checkFromToIndex_18 : decode cJ20_checkFromToIndex 18 = .ok (.invokestatic 99, 3) := dk_184 0 99 (dk_at dksJ20_checkFromToIndex_0 18 rfl rfl)
theorem dJ20_checkFromToIndex_21 : decode cJ20_checkFromToIndex 21 = .ok (.athrow, 1) := dk_191 (dk_at dksJ20_checkFromToIndex_0 21 rfl rfl)
theorem dJ20_checkFromToIndex_22 : decode cJ20_checkFromToIndex 22 = .ok (.iload_n 0, 1) := dk_26 (dk_at dksJ20_checkFromToIndex_0 22 rfl rfl)
theorem dJ20_checkFromToIndex_23 : decode cJ20_checkFromToIndex 23 = .ok (.ireturn, 1) := dk_172 (dk_at dksJ20_checkFromToIndex_0 23 rfl rfl)
theorem q142 : (Jvm.Cond.initialized "jdk/internal/util/Preconditions") ∈ lw_all := lw_g (lw_at lw_m1 27 rfl) rfl
theorem q485 : (Jvm.Cond.laysStatic "jdk/internal/util/Preconditions" "SIOOBE_FORMATTER" "Ljava/util/function/BiFunction;") ∈ lw_tbl := lw_at lw_m2 130 rfl
theorem q487 : (Jvm.Cond.static ({ cls := "jdk/internal/util/Preconditions", name := "checkIndex", desc := "(IILjava/util/function/BiFunction;)I" } : Jvm.MethodName)) ∈ lw_all := lw_g (lw_at lw_m2 132 rfl) rfl
theorem q488 : (Jvm.Cond.code ({ cls := "jdk/internal/util/Preconditions", name := "checkIndex", desc := "(IILjava/util/function/BiFunction;)I" } : Jvm.MethodName) prog_71_method_11_code (3 : Nat) (Option.some Jvm.ClassFile.FieldType.int)) ∈ lw_all := lw_g (lw_at lw_m2 133 rfl) rfl
theorem q867 : (Jvm.Cond.static ({ cls := "jdk/internal/util/Preconditions", name := "checkFromIndexSize", desc := "(IIILjava/util/function/BiFunction;)I" } : Jvm.MethodName)) ∈ lw_all := lw_g (lw_at lw_m4 32 rfl) rfl
theorem q868 : (Jvm.Cond.code ({ cls := "jdk/internal/util/Preconditions", name := "checkFromIndexSize", desc := "(IIILjava/util/function/BiFunction;)I" } : Jvm.MethodName) prog_71_method_13_code (4 : Nat) (Option.some Jvm.ClassFile.FieldType.int)) ∈ lw_all := lw_g (lw_at lw_m4 33 rfl) rfl
theorem q949 : (Jvm.Cond.static ({ cls := "jdk/internal/util/Preconditions", name := "checkFromToIndex", desc := "(IIILjava/util/function/BiFunction;)I" } : Jvm.MethodName)) ∈ lw_all := lw_g (lw_at lw_m4 114 rfl) rfl
theorem q950 : (Jvm.Cond.code ({ cls := "jdk/internal/util/Preconditions", name := "checkFromToIndex", desc := "(IIILjava/util/function/BiFunction;)I" } : Jvm.MethodName) prog_71_method_12_code (4 : Nat) (Option.some Jvm.ClassFile.FieldType.int)) ∈ lw_all := lw_g (lw_at lw_m4 115 rfl) rfl
/-! java/lang/Throwable -/
set_option maxRecDepth 100000
def RJ21 : String := "java/lang/Throwable"
def TJ21 : u_T := fun k => match k with
  | 0 => ("java/lang/Throwable", "cause", "Ljava/lang/Throwable;", false)
  | 1 => ("java/lang/Throwable", "stackTrace", "[Ljava/lang/StackTraceElement;", false)
  | 2 => ("java/lang/Throwable", "suppressedExceptions", "Ljava/util/List;", false)
  | 3 => ("java/lang/Throwable", "detailMessage", "Ljava/lang/String;", false)
  | _ => ("java/lang/Throwable", "backtrace", "Ljava/lang/Object;", false)
def tyJ21 : Nat → FieldType := fun k => match k with
  | 0 => .object "java/lang/Throwable"
  | 1 => .array (.object "java/lang/StackTraceElement")
  | 2 => .object "java/util/List"
  | 3 => .object "java/lang/String"
  | _ => .object "java/lang/Object"
abbrev wsJ210 : List Cond := u_ws RJ21 TJ21 5
theorem nmJ21 : ∀ a, a < 5 → ∀ b, b < 5 → a ≠ b → (TJ21 a).2.1 ≠ (TJ21 b).2.1 := by decide +kernel
theorem tyJ21_ok : ∀ k, k < 5 → parseFieldDescriptor (TJ21 k).2.2.1 = some (tyJ21 k) := by decide +kernel
abbrev cJ21_init : ByteArray := prog_38_method_1_code
def yJ21_init : MethodName := ⟨RJ21, "<init>", "()V"⟩
def dkwJ21_init_1 : List UInt8 := [182, 0, 27, 87, 177]
abbrev dktJ21_init_1 : List UInt8 := dkwJ21_init_1 ++ []
def dkwJ21_init_0 : List UInt8 := [42, 183, 0, 1, 42, 42, 181, 0, 7, 42, 178, 0, 13, 181, 0, 17, 42, 178, 0, 20, 181, 0, 24, 42]
abbrev dktJ21_init_0 : List UInt8 := dkwJ21_init_0 ++ dktJ21_init_1
theorem dksJ21_init_0 : cJ21_init.data.toList.drop 0 = dktJ21_init_0 := by decide +kernel
theorem dksJ21_init_1 : cJ21_init.data.toList.drop 24 = dktJ21_init_1 := dk_seg dksJ21_init_0 24 rfl rfl
theorem dJ21_init_0 : decode cJ21_init 0 = .ok (.aload_n 0, 1) := dk_42 (dk_at dksJ21_init_0 0 rfl rfl)
theorem dJ21_init_1 : decode cJ21_init 1 = .ok (.invokespecial 1, 3) := dk_183 0 1 (dk_at dksJ21_init_0 1 rfl rfl)
theorem dJ21_init_4 : decode cJ21_init 4 = .ok (.aload_n 0, 1) := dk_42 (dk_at dksJ21_init_0 4 rfl rfl)
theorem dJ21_init_5 : decode cJ21_init 5 = .ok (.aload_n 0, 1) := dk_42 (dk_at dksJ21_init_0 5 rfl rfl)
theorem dJ21_init_6 : decode cJ21_init 6 = .ok (.putfield 7, 3) := dk_181 0 7 (dk_at dksJ21_init_0 6 rfl rfl)
theorem dJ21_init_9 : decode cJ21_init 9 = .ok (.aload_n 0, 1) := dk_42 (dk_at dksJ21_init_0 9 rfl rfl)
theorem dJ21_init_10 : decode cJ21_init 10 = .ok (.getstatic 13, 3) := dk_178 0 13 (dk_at dksJ21_init_0 10 rfl rfl)
theorem dJ21_init_13 : decode cJ21_init 13 = .ok (.putfield 17, 3) := dk_181 0 17 (dk_at dksJ21_init_0 13 rfl rfl)
theorem dJ21_init_16 : decode cJ21_init 16 = .ok (.aload_n 0, 1) := dk_42 (dk_at dksJ21_init_0 16 rfl rfl)
theorem dJ21_init_17 : decode cJ21_init 17 = .ok (.getstatic 20, 3) := dk_178 0 20 (dk_at dksJ21_init_0 17 rfl rfl)
theorem dJ21_init_20 : decode cJ21_init 20 = .ok (.putfield 24, 3) := dk_181 0 24 (dk_at dksJ21_init_0 20 rfl rfl)
theorem dJ21_init_23 : decode cJ21_init 23 = .ok (.aload_n 0, 1) := dk_42 (dk_at dksJ21_init_0 23 rfl rfl)
theorem dJ21_init_24 : decode cJ21_init 24 = .ok (.invokevirtual 27, 3) := dk_182 0 27 (dk_at dksJ21_init_1 0 rfl rfl)
theorem dJ21_init_27 : decode cJ21_init 27 = .ok (.pop, 1) := dk_87 (dk_at dksJ21_init_1 3 rfl rfl)
theorem dJ21_init_28 : decode cJ21_init 28 = .ok (.return_, 1) := dk_177 (dk_at dksJ21_init_1 4 rfl rfl)
abbrev cJ21_init_2 : ByteArray := prog_38_method_2_code
def yJ21_init_2 : MethodName := ⟨RJ21, "<init>", "(Ljava/lang/String;)V"⟩
def dkwJ21_init_2_1 : List UInt8 := [182, 0, 27, 87, 42, 43, 181, 0, 31, 177]
abbrev dktJ21_init_2_1 : List UInt8 := dkwJ21_init_2_1 ++ []
def dkwJ21_init_2_0 : List UInt8 := [42, 183, 0, 1, 42, 42, 181, 0, 7, 42, 178, 0, 13, 181, 0, 17, 42, 178, 0, 20, 181, 0, 24, 42]
abbrev dktJ21_init_2_0 : List UInt8 := dkwJ21_init_2_0 ++ dktJ21_init_2_1
theorem dksJ21_init_2_0 : cJ21_init_2.data.toList.drop 0 = dktJ21_init_2_0 := by decide +kernel
theorem dksJ21_init_2_1 : cJ21_init_2.data.toList.drop 24 = dktJ21_init_2_1 := dk_seg dksJ21_init_2_0 24 rfl rfl
theorem dJ21_init_2_0 : decode cJ21_init_2 0 = .ok (.aload_n 0, 1) := dk_42 (dk_at dksJ21_init_2_0 0 rfl rfl)
theorem dJ21_init_2_1 : decode cJ21_init_2 1 = .ok (.invokespecial 1, 3) := dk_183 0 1 (dk_at dksJ21_init_2_0 1 rfl rfl)
theorem dJ21_init_2_4 : decode cJ21_init_2 4 = .ok (.aload_n 0, 1) := dk_42 (dk_at dksJ21_init_2_0 4 rfl rfl)
theorem dJ21_init_2_5 : decode cJ21_init_2 5 = .ok (.aload_n 0, 1) := dk_42 (dk_at dksJ21_init_2_0 5 rfl rfl)
theorem dJ21_init_2_6 : decode cJ21_init_2 6 = .ok (.putfield 7, 3) := dk_181 0 7 (dk_at dksJ21_init_2_0 6 rfl rfl)
theorem dJ21_init_2_9 : decode cJ21_init_2 9 = .ok (.aload_n 0, 1) := dk_42 (dk_at dksJ21_init_2_0 9 rfl rfl)
theorem dJ21_init_2_10 : decode cJ21_init_2 10 = .ok (.getstatic 13, 3) := dk_178 0 13 (dk_at dksJ21_init_2_0 10 rfl rfl)
theorem dJ21_init_2_13 : decode cJ21_init_2 13 = .ok (.putfield 17, 3) := dk_181 0 17 (dk_at dksJ21_init_2_0 13 rfl rfl)
theorem dJ21_init_2_16 : decode cJ21_init_2 16 = .ok (.aload_n 0, 1) := dk_42 (dk_at dksJ21_init_2_0 16 rfl rfl)
theorem dJ21_init_2_17 : decode cJ21_init_2 17 = .ok (.getstatic 20, 3) := dk_178 0 20 (dk_at dksJ21_init_2_0 17 rfl rfl)
theorem dJ21_init_2_20 : decode cJ21_init_2 20 = .ok (.putfield 24, 3) := dk_181 0 24 (dk_at dksJ21_init_2_0 20 rfl rfl)
theorem dJ21_init_2_23 : decode cJ21_init_2 23 = .ok (.aload_n 0, 1) := dk_42 (dk_at dksJ21_init_2_0 23 rfl rfl)
theorem dJ21_init_2_24 : decode cJ21_init_2 24 = .ok (.invokevirtual 27, 3) := dk_182 0 27 (dk_at dksJ21_init_2_1 0 rfl rfl)
theorem dJ21_init_2_27 : decode cJ21_init_2 27 = .ok (.pop, 1) := dk_87 (dk_at dksJ21_init_2_1 3 rfl rfl)
theorem dJ21_init_2_28 : decode cJ21_init_2 28 = .ok (.aload_n 0, 1) := dk_42 (dk_at dksJ21_init_2_1 4 rfl rfl)
theorem dJ21_init_2_29 : decode cJ21_init_2 29 = .ok (.aload_n 1, 1) := dk_43 (dk_at dksJ21_init_2_1 5 rfl rfl)
theorem dJ21_init_2_30 : decode cJ21_init_2 30 = .ok (.putfield 31, 3) := dk_181 0 31 (dk_at dksJ21_init_2_1 6 rfl rfl)
theorem dJ21_init_2_33 : decode cJ21_init_2 33 = .ok (.return_, 1) := dk_177 (dk_at dksJ21_init_2_1 9 rfl rfl)
abbrev cJ21_init_3 : ByteArray := prog_38_method_5_code
def yJ21_init_3 : MethodName := ⟨RJ21, "<init>", "(Ljava/lang/String;Ljava/lang/Throwable;ZZ)V"⟩
def dkwJ21_init_3_2 : List UInt8 := [44, 181, 0, 7, 29, 154, 0, 8, 42, 1, 181, 0, 24, 177]
abbrev dktJ21_init_3_2 : List UInt8 := dkwJ21_init_3_2 ++ []
def dkwJ21_init_3_1 : List UInt8 := [21, 4, 153, 0, 11, 42, 182, 0, 27, 87, 167, 0, 8, 42, 1, 181, 0, 17, 42, 43, 181, 0, 31, 42]
abbrev dktJ21_init_3_1 : List UInt8 := dkwJ21_init_3_1 ++ dktJ21_init_3_2
def dkwJ21_init_3_0 : List UInt8 := [42, 183, 0, 1, 42, 42, 181, 0, 7, 42, 178, 0, 13, 181, 0, 17, 42, 178, 0, 20, 181, 0, 24]
abbrev dktJ21_init_3_0 : List UInt8 := dkwJ21_init_3_0 ++ dktJ21_init_3_1
theorem dksJ21_init_3_0 : cJ21_init_3.data.toList.drop 0 = dktJ21_init_3_0 := by decide +kernel
theorem dksJ21_init_3_1 : cJ21_init_3.data.toList.drop 23 = dktJ21_init_3_1 := dk_seg dksJ21_init_3_0 23 rfl rfl
theorem dksJ21_init_3_2 : cJ21_init_3.data.toList.drop 47 = dktJ21_init_3_2 := dk_seg dksJ21_init_3_1 24 rfl rfl
theorem dJ21_init_3_0 : decode cJ21_init_3 0 = .ok (.aload_n 0, 1) := dk_42 (dk_at dksJ21_init_3_0 0 rfl rfl)
theorem dJ21_init_3_1 : decode cJ21_init_3 1 = .ok (.invokespecial 1, 3) := dk_183 0 1 (dk_at dksJ21_init_3_0 1 rfl rfl)
theorem dJ21_init_3_4 : decode cJ21_init_3 4 = .ok (.aload_n 0, 1) := dk_42 (dk_at dksJ21_init_3_0 4 rfl rfl)
theorem dJ21_init_3_5 : decode cJ21_init_3 5 = .ok (.aload_n 0, 1) := dk_42 (dk_at dksJ21_init_3_0 5 rfl rfl)
theorem dJ21_init_3_6 : decode cJ21_init_3 6 = .ok (.putfield 7, 3) := dk_181 0 7 (dk_at dksJ21_init_3_0 6 rfl rfl)
theorem dJ21_init_3_9 : decode cJ21_init_3 9 = .ok (.aload_n 0, 1) := dk_42 (dk_at dksJ21_init_3_0 9 rfl rfl)
theorem dJ21_init_3_10 : decode cJ21_init_3 10 = .ok (.getstatic 13, 3) := dk_178 0 13 (dk_at dksJ21_init_3_0 10 rfl rfl)
theorem dJ21_init_3_13 : decode cJ21_init_3 13 = .ok (.putfield 17, 3) := dk_181 0 17 (dk_at dksJ21_init_3_0 13 rfl rfl)
theorem dJ21_init_3_16 : decode cJ21_init_3 16 = .ok (.aload_n 0, 1) := dk_42 (dk_at dksJ21_init_3_0 16 rfl rfl)
theorem dJ21_init_3_17 : decode cJ21_init_3 17 = .ok (.getstatic 20, 3) := dk_178 0 20 (dk_at dksJ21_init_3_0 17 rfl rfl)
theorem dJ21_init_3_20 : decode cJ21_init_3 20 = .ok (.putfield 24, 3) := dk_181 0 24 (dk_at dksJ21_init_3_0 20 rfl rfl)
theorem dJ21_init_3_23 : decode cJ21_init_3 23 = .ok (.iload 4, 2) := dk_21 4 (dk_at dksJ21_init_3_1 0 rfl rfl)
theorem dJ21_init_3_25 : decode cJ21_init_3 25 = .ok (.ifCond .eq 11, 3) := dk_153 0 11 (dk_at dksJ21_init_3_1 2 rfl rfl)
theorem dJ21_init_3_28 : decode cJ21_init_3 28 = .ok (.aload_n 0, 1) := dk_42 (dk_at dksJ21_init_3_1 5 rfl rfl)
theorem dJ21_init_3_29 : decode cJ21_init_3 29 = .ok (.invokevirtual 27, 3) := dk_182 0 27 (dk_at dksJ21_init_3_1 6 rfl rfl)
theorem dJ21_init_3_32 : decode cJ21_init_3 32 = .ok (.pop, 1) := dk_87 (dk_at dksJ21_init_3_1 9 rfl rfl)
theorem dJ21_init_3_33 : decode cJ21_init_3 33 = .ok (.goto 8, 3) := dk_167 0 8 (dk_at dksJ21_init_3_1 10 rfl rfl)
theorem dJ21_init_3_36 : decode cJ21_init_3 36 = .ok (.aload_n 0, 1) := dk_42 (dk_at dksJ21_init_3_1 13 rfl rfl)
theorem dJ21_init_3_37 : decode cJ21_init_3 37 = .ok (.aconst_null, 1) := dk_1 (dk_at dksJ21_init_3_1 14 rfl rfl)
theorem dJ21_init_3_38 : decode cJ21_init_3 38 = .ok (.putfield 17, 3) := dk_181 0 17 (dk_at dksJ21_init_3_1 15 rfl rfl)
theorem dJ21_init_3_41 : decode cJ21_init_3 41 = .ok (.aload_n 0, 1) := dk_42 (dk_at dksJ21_init_3_1 18 rfl rfl)
theorem dJ21_init_3_42 : decode cJ21_init_3 42 = .ok (.aload_n 1, 1) := dk_43 (dk_at dksJ21_init_3_1 19 rfl rfl)
theorem dJ21_init_3_43 : decode cJ21_init_3 43 = .ok (.putfield 31, 3) := dk_181 0 31 (dk_at dksJ21_init_3_1 20 rfl rfl)
theorem dJ21_init_3_46 : decode cJ21_init_3 46 = .ok (.aload_n 0, 1) := dk_42 (dk_at dksJ21_init_3_1 23 rfl rfl)
theorem dJ21_init_3_47 : decode cJ21_init_3 47 = .ok (.aload_n 2, 1) := dk_44 (dk_at dksJ21_init_3_2 0 rfl rfl)
theorem dJ21_init_3_48 : decode cJ21_init_3 48 = .ok (.putfield 7, 3) := dk_181 0 7 (dk_at dksJ21_init_3_2 1 rfl rfl)
theorem dJ21_init_3_51 : decode cJ21_init_3 51 = .ok (.iload_n 3, 1) := dk_29 (dk_at dksJ21_init_3_2 4 rfl rfl)
theorem dJ21_init_3_52 : decode cJ21_init_3 52 = .ok (.ifCond .ne 8, 3) := dk_154 0 8 (dk_at dksJ21_init_3_2 5 rfl rfl)
theorem dJ21_init_3_55 : decode cJ21_init_3 55 = .ok (.aload_n 0, 1) := dk_42 (dk_at dksJ21_init_3_2 8 rfl rfl)
theorem dJ21_init_3_56 : decode cJ21_init_3 56 = .ok (.aconst_null, 1) := dk_1 (dk_at dksJ21_init_3_2 9 rfl rfl)
theorem dJ21_init_3_57 : decode cJ21_init_3 57 = .ok (.putfield 24, 3) := dk_181 0 24 (dk_at dksJ21_init_3_2 10 rfl rfl)
theorem dJ21_init_3_60 : decode cJ21_init_3 60 = .ok (.return_, 1) := dk_177 (dk_at dksJ21_init_3_2 13 rfl rfl)
abbrev cJ21_init_4 : ByteArray := prog_38_method_4_code
def yJ21_init_4 : MethodName := ⟨RJ21, "<init>", "(Ljava/lang/Throwable;)V"⟩
def dkwJ21_init_4_2 : List UInt8 := [181, 0, 7, 177]
abbrev dktJ21_init_4_2 : List UInt8 := dkwJ21_init_4_2 ++ []
def dkwJ21_init_4_1 : List UInt8 := [182, 0, 27, 87, 42, 43, 199, 0, 7, 1, 167, 0, 7, 43, 182, 0, 35, 181, 0, 31, 42, 43]
abbrev dktJ21_init_4_1 : List UInt8 := dkwJ21_init_4_1 ++ dktJ21_init_4_2
def dkwJ21_init_4_0 : List UInt8 := [42, 183, 0, 1, 42, 42, 181, 0, 7, 42, 178, 0, 13, 181, 0, 17, 42, 178, 0, 20, 181, 0, 24, 42]
abbrev dktJ21_init_4_0 : List UInt8 := dkwJ21_init_4_0 ++ dktJ21_init_4_1
theorem dksJ21_init_4_0 : cJ21_init_4.data.toList.drop 0 = dktJ21_init_4_0 := by decide +kernel
theorem dksJ21_init_4_1 : cJ21_init_4.data.toList.drop 24 = dktJ21_init_4_1 := dk_seg dksJ21_init_4_0 24 rfl rfl
theorem dksJ21_init_4_2 : cJ21_init_4.data.toList.drop 46 = dktJ21_init_4_2 := dk_seg dksJ21_init_4_1 22 rfl rfl
theorem dJ21_init_4_0 : decode cJ21_init_4 0 = .ok (.aload_n 0, 1) := dk_42 (dk_at dksJ21_init_4_0 0 rfl rfl)
theorem dJ21_init_4_1 : decode cJ21_init_4 1 = .ok (.invokespecial 1, 3) := dk_183 0 1 (dk_at dksJ21_init_4_0 1 rfl rfl)
theorem dJ21_init_4_4 : decode cJ21_init_4 4 = .ok (.aload_n 0, 1) := dk_42 (dk_at dksJ21_init_4_0 4 rfl rfl)
theorem dJ21_init_4_5 : decode cJ21_init_4 5 = .ok (.aload_n 0, 1) := dk_42 (dk_at dksJ21_init_4_0 5 rfl rfl)
theorem dJ21_init_4_6 : decode cJ21_init_4 6 = .ok (.putfield 7, 3) := dk_181 0 7 (dk_at dksJ21_init_4_0 6 rfl rfl)
theorem dJ21_init_4_9 : decode cJ21_init_4 9 = .ok (.aload_n 0, 1) := dk_42 (dk_at dksJ21_init_4_0 9 rfl rfl)
theorem dJ21_init_4_10 : decode cJ21_init_4 10 = .ok (.getstatic 13, 3) := dk_178 0 13 (dk_at dksJ21_init_4_0 10 rfl rfl)
theorem dJ21_init_4_13 : decode cJ21_init_4 13 = .ok (.putfield 17, 3) := dk_181 0 17 (dk_at dksJ21_init_4_0 13 rfl rfl)
theorem dJ21_init_4_16 : decode cJ21_init_4 16 = .ok (.aload_n 0, 1) := dk_42 (dk_at dksJ21_init_4_0 16 rfl rfl)
theorem dJ21_init_4_17 : decode cJ21_init_4 17 = .ok (.getstatic 20, 3) := dk_178 0 20 (dk_at dksJ21_init_4_0 17 rfl rfl)
theorem dJ21_init_4_20 : decode cJ21_init_4 20 = .ok (.putfield 24, 3) := dk_181 0 24 (dk_at dksJ21_init_4_0 20 rfl rfl)
theorem dJ21_init_4_23 : decode cJ21_init_4 23 = .ok (.aload_n 0, 1) := dk_42 (dk_at dksJ21_init_4_0 23 rfl rfl)
theorem dJ21_init_4_24 : decode cJ21_init_4 24 = .ok (.invokevirtual 27, 3) := dk_182 0 27 (dk_at dksJ21_init_4_1 0 rfl rfl)
theorem dJ21_init_4_27 : decode cJ21_init_4 27 = .ok (.pop, 1) := dk_87 (dk_at dksJ21_init_4_1 3 rfl rfl)
theorem dJ21_init_4_28 : decode cJ21_init_4 28 = .ok (.aload_n 0, 1) := dk_42 (dk_at dksJ21_init_4_1 4 rfl rfl)
theorem dJ21_init_4_29 : decode cJ21_init_4 29 = .ok (.aload_n 1, 1) := dk_43 (dk_at dksJ21_init_4_1 5 rfl rfl)
theorem dJ21_init_4_30 : decode cJ21_init_4 30 = .ok (.ifnonnull 7, 3) := dk_199 0 7 (dk_at dksJ21_init_4_1 6 rfl rfl)
theorem dJ21_init_4_33 : decode cJ21_init_4 33 = .ok (.aconst_null, 1) := dk_1 (dk_at dksJ21_init_4_1 9 rfl rfl)
theorem dJ21_init_4_34 : decode cJ21_init_4 34 = .ok (.goto 7, 3) := dk_167 0 7 (dk_at dksJ21_init_4_1 10 rfl rfl)
theorem dJ21_init_4_37 : decode cJ21_init_4 37 = .ok (.aload_n 1, 1) := dk_43 (dk_at dksJ21_init_4_1 13 rfl rfl)
theorem dJ21_init_4_38 : decode cJ21_init_4 38 = .ok (.invokevirtual 35, 3) := dk_182 0 35 (dk_at dksJ21_init_4_1 14 rfl rfl)
theorem dJ21_init_4_41 : decode cJ21_init_4 41 = .ok (.putfield 31, 3) := dk_181 0 31 (dk_at dksJ21_init_4_1 17 rfl rfl)
theorem dJ21_init_4_44 : decode cJ21_init_4 44 = .ok (.aload_n 0, 1) := dk_42 (dk_at dksJ21_init_4_1 20 rfl rfl)
theorem dJ21_init_4_45 : decode cJ21_init_4 45 = .ok (.aload_n 1, 1) := dk_43 (dk_at dksJ21_init_4_1 21 rfl rfl)
theorem dJ21_init_4_46 : decode cJ21_init_4 46 = .ok (.putfield 7, 3) := dk_181 0 7 (dk_at dksJ21_init_4_2 0 rfl rfl)
theorem dJ21_init_4_49 : decode cJ21_init_4 49 = .ok (.return_, 1) := dk_177 (dk_at dksJ21_init_4_2 3 rfl rfl)
abbrev cJ21_toString : ByteArray := prog_38_method_11_code
def yJ21_toString : MethodName := ⟨RJ21, "toString", "()Ljava/lang/String;"⟩
def dkwJ21_toString_1 : List UInt8 := [43, 182, 0, 49, 18, 81, 182, 0, 49, 44, 182, 0, 49, 182, 0, 60, 167, 0, 4, 43, 176]
abbrev dktJ21_toString_1 : List UInt8 := dkwJ21_toString_1 ++ []
def dkwJ21_toString_0 : List UInt8 := [42, 182, 0, 69, 182, 0, 73, 76, 42, 182, 0, 78, 77, 44, 198, 0, 29, 187, 0, 44, 89, 183, 0, 46]
abbrev dktJ21_toString_0 : List UInt8 := dkwJ21_toString_0 ++ dktJ21_toString_1
theorem dksJ21_toString_0 : cJ21_toString.data.toList.drop 0 = dktJ21_toString_0 := by decide +kernel
theorem dksJ21_toString_1 : cJ21_toString.data.toList.drop 24 = dktJ21_toString_1 := dk_seg dksJ21_toString_0 24 rfl rfl
theorem dJ21_toString_0 : decode cJ21_toString 0 = .ok (.aload_n 0, 1) := dk_42 (dk_at dksJ21_toString_0 0 rfl rfl)
theorem dJ21_toString_1 : decode cJ21_toString 1 = .ok (.invokevirtual 69, 3) := dk_182 0 69 (dk_at dksJ21_toString_0 1 rfl rfl)
theorem dJ21_toString_4 : decode cJ21_toString 4 = .ok (.invokevirtual 73, 3) := dk_182 0 73 (dk_at dksJ21_toString_0 4 rfl rfl)
theorem dJ21_toString_7 : decode cJ21_toString 7 = .ok (.astore_n 1, 1) := dk_76 (dk_at dksJ21_toString_0 7 rfl rfl)
theorem dJ21_toString_8 : decode cJ21_toString 8 = .ok (.aload_n 0, 1) := dk_42 (dk_at dksJ21_toString_0 8 rfl rfl)
theorem dJ21_toString_9 : decode cJ21_toString 9 = .ok (.invokevirtual 78, 3) := dk_182 0 78 (dk_at dksJ21_toString_0 9 rfl rfl)
theorem dJ21_toString_12 : decode cJ21_toString 12 = .ok (.astore_n 2, 1) := dk_77 (dk_at dksJ21_toString_0 12 rfl rfl)
theorem dJ21_toString_13 : decode cJ21_toString 13 = .ok (.aload_n 2, 1) := dk_44 (dk_at dksJ21_toString_0 13 rfl rfl)
theorem dJ21_toString_14 : decode cJ21_toString 14 = .ok (.ifnull 29, 3) := dk_198 0 29 (dk_at dksJ21_toString_0 14 rfl rfl)
theorem dJ21_toString_17 : decode cJ21_toString 17 = .ok (.new 44, 3) := dk_187 0 44 (dk_at dksJ21_toString_0 17 rfl rfl)
theorem dJ21_toString_20 : decode cJ21_toString 20 = .ok (.dup, 1) := dk_89 (dk_at dksJ21_toString_0 20 rfl rfl)
theorem dJ21_toString_21 : decode cJ21_toString 21 = .ok (.invokespecial 46, 3) := dk_183 0 46 (dk_at dksJ21_toString_0 21 rfl rfl)
theorem dJ21_toString_24 : decode cJ21_toString 24 = .ok (.aload_n 1, 1) := dk_43 (dk_at dksJ21_toString_1 0 rfl rfl)
theorem dJ21_toString_25 : decode cJ21_toString 25 = .ok (.invokevirtual 49, 3) := dk_182 0 49 (dk_at dksJ21_toString_1 1 rfl rfl)
theorem dJ21_toString_28 : decode cJ21_toString 28 = .ok (.ldc 81, 2) := dk_18 81 (dk_at dksJ21_toString_1 4 rfl rfl)
theorem dJ21_toString_30 : decode cJ21_toString 30 = .ok (.invokevirtual 49, 3) := dk_182 0 49 (dk_at dksJ21_toString_1 6 rfl rfl)
theorem dJ21_toString_33 : decode cJ21_toString 33 = .ok (.aload_n 2, 1) := dk_44 (dk_at dksJ21_toString_1 9 rfl rfl)
theorem dJ21_toString_34 : decode cJ21_toString 34 = .ok (.invokevirtual 49, 3) := dk_182 0 49 (dk_at dksJ21_toString_1 10 rfl rfl)
theorem dJ21_toString_37 : decode cJ21_toString 37 = .ok (.invokevirtual 60, 3) := dk_182 0 60 (dk_at dksJ21_toString_1 13 rfl rfl)
theorem dJ21_toString_40 : decode cJ21_toString 40 = .ok (.goto 4, 3) := dk_167 0 4 (dk_at dksJ21_toString_1 16 rfl rfl)
theorem dJ21_toString_43 : decode cJ21_toString 43 = .ok (.aload_n 1, 1) := dk_43 (dk_at dksJ21_toString_1 19 rfl rfl)
theorem dJ21_toString_44 : decode cJ21_toString 44 = .ok (.areturn, 1) := dk_176 (dk_at dksJ21_toString_1 20 rfl rfl)
abbrev cJ21_getLocalizedMessage : ByteArray := prog_38_method_7_code
def yJ21_getLocalizedMessage : MethodName := ⟨RJ21, "getLocalizedMessage", "()Ljava/lang/String;"⟩
theorem dJ21_getLocalizedMessage_0 : decode cJ21_getLocalizedMessage 0 = .ok (.aload_n 0, 1) := by decide +kernel
theorem dJ21_getLocalizedMessage_1 : decode cJ21_getLocalizedMessage 1 = .ok (.invokevirtual 39, 3) := by decide +kernel
theorem dJ21_getLocalizedMessage_4 : decode cJ21_getLocalizedMessage 4 = .ok (.areturn, 1) := by decide +kernel
abbrev cJ21_getMessage : ByteArray := prog_38_method_6_code
def yJ21_getMessage : MethodName := ⟨RJ21, "getMessage", "()Ljava/lang/String;"⟩
theorem dJ21_getMessage_0 : decode cJ21_getMessage 0 = .ok (.aload_n 0, 1) := by decide +kernel
theorem dJ21_getMessage_1 : decode cJ21_getMessage 1 = .ok (.getfield 31, 3) := by decide +kernel
theorem dJ21_getMessage_4 : decode cJ21_getMessage 4 = .ok (.areturn, 1) := by decide +kernel
theorem q143 : (Jvm.Cond.initialized "java/lang/Throwable") ∈ lw_all := lw_g (lw_at lw_m1 28 rfl) rfl
theorem q355 : (Jvm.Cond.declares ({ cls := "java/lang/Throwable", name := "<init>", desc := "()V" } : Jvm.MethodName)) ∈ lw_tbl := lw_at lw_m2 0 rfl
theorem q356 : (Jvm.Cond.declares ({ cls := "java/lang/Throwable", name := "<init>", desc := "(Ljava/lang/String;)V" } : Jvm.MethodName)) ∈ lw_tbl := lw_at lw_m2 1 rfl
theorem q360 : (Jvm.Cond.lays "java/lang/Throwable" "java/lang/Throwable" "cause" "Ljava/lang/Throwable;") ∈ lw_all := lw_g (lw_at lw_m2 5 rfl) rfl
theorem q362 : (Jvm.Cond.lays "java/lang/Throwable" "java/lang/Throwable" "stackTrace" "[Ljava/lang/StackTraceElement;") ∈ lw_all := lw_g (lw_at lw_m2 7 rfl) rfl
theorem q364 : (Jvm.Cond.lays "java/lang/Throwable" "java/lang/Throwable" "suppressedExceptions" "Ljava/util/List;") ∈ lw_all := lw_g (lw_at lw_m2 9 rfl) rfl
theorem q366 : (Jvm.Cond.lays "java/lang/Throwable" "java/lang/Throwable" "detailMessage" "Ljava/lang/String;") ∈ lw_all := lw_g (lw_at lw_m2 11 rfl) rfl
theorem q368 : (Jvm.Cond.lays "java/lang/Throwable" "java/lang/Throwable" "backtrace" "Ljava/lang/Object;") ∈ lw_all := lw_g (lw_at lw_m2 13 rfl) rfl
theorem q369 : (Jvm.Cond.fieldLink "java/lang/Throwable" (198 : Nat) "java/lang/Throwable" "backtrace" "Ljava/lang/Object;") ∈ lw_all := lw_g (lw_at lw_m2 14 rfl) rfl
theorem q370 : (Jvm.Cond.superclass "java/lang/Throwable" "java/lang/Object") ∈ lw_all := lw_g (lw_at lw_m2 15 rfl) rfl
theorem q371 : (Jvm.Cond.instanceMethod ({ cls := "java/lang/Throwable", name := "<init>", desc := "()V" } : Jvm.MethodName)) ∈ lw_all := lw_g (lw_at lw_m2 16 rfl) rfl
theorem q372 : (Jvm.Cond.code ({ cls := "java/lang/Throwable", name := "<init>", desc := "()V" } : Jvm.MethodName) prog_38_method_1_code (1 : Nat) (Option.none : Option Jvm.ClassFile.FieldType)) ∈ lw_all := lw_g (lw_at lw_m2 17 rfl) rfl
theorem q373 : (Jvm.Cond.methodLink "java/lang/Throwable" (1 : Nat) ({ cls := "java/lang/Object", name := "<init>", desc := "()V" } : Jvm.MethodName)) ∈ lw_all := lw_g (lw_at lw_m2 18 rfl) rfl
theorem q374 : (Jvm.Cond.fieldLink "java/lang/Throwable" (13 : Nat) "java/lang/Throwable" "UNASSIGNED_STACK" "[Ljava/lang/StackTraceElement;") ∈ lw_all := lw_g (lw_at lw_m2 19 rfl) rfl
theorem q375 : (Jvm.Cond.laysStatic "java/lang/Throwable" "UNASSIGNED_STACK" "[Ljava/lang/StackTraceElement;") ∈ lw_tbl := lw_at lw_m2 20 rfl
theorem q376 : (Jvm.Cond.fieldLink "java/lang/Throwable" (20 : Nat) "java/lang/Throwable" "SUPPRESSED_SENTINEL" "Ljava/util/List;") ∈ lw_all := lw_g (lw_at lw_m2 21 rfl) rfl
theorem q377 : (Jvm.Cond.laysStatic "java/lang/Throwable" "SUPPRESSED_SENTINEL" "Ljava/util/List;") ∈ lw_tbl := lw_at lw_m2 22 rfl
theorem q378 : (Jvm.Cond.methodLink "java/lang/Throwable" (27 : Nat) ({ cls := "java/lang/Throwable", name := "fillInStackTrace", desc := "()Ljava/lang/Throwable;" } : Jvm.MethodName)) ∈ lw_all := lw_g (lw_at lw_m2 23 rfl) rfl
theorem q379 : (Jvm.Cond.instanceMethod ({ cls := "java/lang/Throwable", name := "fillInStackTrace", desc := "()Ljava/lang/Throwable;" } : Jvm.MethodName)) ∈ lw_all := lw_g (lw_at lw_m2 24 rfl) rfl
theorem q380 : (Jvm.Cond.sameMethod "java/lang/Throwable" "java/lang/Throwable" "fillInStackTrace" "()Ljava/lang/Throwable;") ∈ lw_all := lw_g (lw_at lw_m2 25 rfl) rfl
theorem q387 : (Jvm.Cond.codeSync ({ cls := "java/lang/Throwable", name := "fillInStackTrace", desc := "()Ljava/lang/Throwable;" } : Jvm.MethodName) prog_38_method_18_code (1 : Nat) (Option.some (Jvm.ClassFile.FieldType.object "java/lang/Throwable"))) ∈ lw_all := lw_g (lw_at lw_m2 32 rfl) rfl
theorem q388 : (Jvm.Cond.methodLink "java/lang/Throwable" (202 : Nat) ({ cls := "java/lang/Throwable", name := "fillInStackTrace", desc := "(I)Ljava/lang/Throwable;" } : Jvm.MethodName)) ∈ lw_all := lw_g (lw_at lw_m2 33 rfl) rfl
theorem q389 : (Jvm.Cond.privateMethod ({ cls := "java/lang/Throwable", name := "fillInStackTrace", desc := "(I)Ljava/lang/Throwable;" } : Jvm.MethodName)) ∈ lw_tbl := lw_at lw_m2 34 rfl
theorem q390 : (Jvm.Cond.instanceMethod ({ cls := "java/lang/Throwable", name := "fillInStackTrace", desc := "(I)Ljava/lang/Throwable;" } : Jvm.MethodName)) ∈ lw_all := lw_g (lw_at lw_m2 35 rfl) rfl
theorem q391 : (Jvm.Cond.instantiable "java/lang/Throwable" (6 : Nat)) ∈ lw_all := lw_g (lw_at lw_m2 36 rfl) rfl
theorem q392 : (Jvm.Cond.native ({ cls := "java/lang/Throwable", name := "fillInStackTrace", desc := "(I)Ljava/lang/Throwable;" } : Jvm.MethodName)) ∈ lw_all := lw_g (lw_at lw_m2 37 rfl) rfl
theorem q403 : (Jvm.Cond.fieldLink "java/lang/Throwable" (198 : Nat) "java/lang/Throwable" "backtrace" "Ljava/lang/Object;") ∈ lw_all := lw_g (lw_at lw_m2 48 rfl) rfl
theorem q404 : (Jvm.Cond.fieldLink "java/lang/Throwable" (31 : Nat) "java/lang/Throwable" "detailMessage" "Ljava/lang/String;") ∈ lw_all := lw_g (lw_at lw_m2 49 rfl) rfl
theorem q405 : (Jvm.Cond.fieldLink "java/lang/Throwable" (7 : Nat) "java/lang/Throwable" "cause" "Ljava/lang/Throwable;") ∈ lw_all := lw_g (lw_at lw_m2 50 rfl) rfl
theorem q406 : (Jvm.Cond.fieldLink "java/lang/Throwable" (17 : Nat) "java/lang/Throwable" "stackTrace" "[Ljava/lang/StackTraceElement;") ∈ lw_all := lw_g (lw_at lw_m2 51 rfl) rfl
theorem q407 : (Jvm.Cond.fieldLink "java/lang/Throwable" (24 : Nat) "java/lang/Throwable" "suppressedExceptions" "Ljava/util/List;") ∈ lw_all := lw_g (lw_at lw_m2 52 rfl) rfl
theorem q408 : (Jvm.Cond.soleField "java/lang/Throwable" "backtrace") ∈ lw_all := lw_g (lw_at lw_m2 53 rfl) rfl
theorem q409 : (Jvm.Cond.soleField "java/lang/Throwable" "detailMessage") ∈ lw_all := lw_g (lw_at lw_m2 54 rfl) rfl
theorem q410 : (Jvm.Cond.soleField "java/lang/Throwable" "cause") ∈ lw_all := lw_g (lw_at lw_m2 55 rfl) rfl
theorem q411 : (Jvm.Cond.soleField "java/lang/Throwable" "stackTrace") ∈ lw_all := lw_g (lw_at lw_m2 56 rfl) rfl
theorem q413 : (Jvm.Cond.soleField "java/lang/Throwable" "depth") ∈ lw_all := lw_g (lw_at lw_m2 58 rfl) rfl
theorem q414 : (Jvm.Cond.soleField "java/lang/Throwable" "suppressedExceptions") ∈ lw_all := lw_g (lw_at lw_m2 59 rfl) rfl
theorem q998 : (Jvm.Cond.instanceMethod ({ cls := "java/lang/Throwable", name := "<init>", desc := "(Ljava/lang/String;)V" } : Jvm.MethodName)) ∈ lw_all := lw_g (lw_at lw_m4 163 rfl) rfl
theorem q999 : (Jvm.Cond.code ({ cls := "java/lang/Throwable", name := "<init>", desc := "(Ljava/lang/String;)V" } : Jvm.MethodName) prog_38_method_2_code (2 : Nat) (Option.none : Option Jvm.ClassFile.FieldType)) ∈ lw_all := lw_g (lw_at lw_m4 164 rfl) rfl
theorem q1050 : (Jvm.Cond.instanceMethod ({ cls := "java/lang/Throwable", name := "<init>", desc := "(Ljava/lang/String;Ljava/lang/Throwable;ZZ)V" } : Jvm.MethodName)) ∈ lw_all := lw_g (lw_at lw_m4 215 rfl) rfl
theorem q1051 : (Jvm.Cond.code ({ cls := "java/lang/Throwable", name := "<init>", desc := "(Ljava/lang/String;Ljava/lang/Throwable;ZZ)V" } : Jvm.MethodName) prog_38_method_5_code (5 : Nat) (Option.none : Option Jvm.ClassFile.FieldType)) ∈ lw_all := lw_g (lw_at lw_m4 216 rfl) rfl
theorem q1374 : (Jvm.Cond.instanceMethod ({ cls := "java/lang/Throwable", name := "<init>", desc := "(Ljava/lang/Throwable;)V" } : Jvm.MethodName)) ∈ lw_all := lw_g (lw_at lw_m6 59 rfl) rfl
theorem q1375 : (Jvm.Cond.code ({ cls := "java/lang/Throwable", name := "<init>", desc := "(Ljava/lang/Throwable;)V" } : Jvm.MethodName) prog_38_method_4_code (2 : Nat) (Option.none : Option Jvm.ClassFile.FieldType)) ∈ lw_all := lw_g (lw_at lw_m6 60 rfl) rfl
theorem q1376 : (Jvm.Cond.methodLink "java/lang/Throwable" (35 : Nat) ({ cls := "java/lang/Throwable", name := "toString", desc := "()Ljava/lang/String;" } : Jvm.MethodName)) ∈ lw_all := lw_g (lw_at lw_m6 61 rfl) rfl
theorem q1377 : (Jvm.Cond.instanceMethod ({ cls := "java/lang/Throwable", name := "toString", desc := "()Ljava/lang/String;" } : Jvm.MethodName)) ∈ lw_all := lw_g (lw_at lw_m6 62 rfl) rfl
theorem q1378 : (Jvm.Cond.sameMethod "java/lang/Throwable" "java/lang/Throwable" "toString" "()Ljava/lang/String;") ∈ lw_all := lw_g (lw_at lw_m6 63 rfl) rfl
theorem q1386 : (Jvm.Cond.code ({ cls := "java/lang/Throwable", name := "toString", desc := "()Ljava/lang/String;" } : Jvm.MethodName) prog_38_method_11_code (3 : Nat) (Option.some (Jvm.ClassFile.FieldType.object "java/lang/String"))) ∈ lw_all := lw_g (lw_at lw_m6 71 rfl) rfl
theorem q1387 : (Jvm.Cond.methodLink "java/lang/Throwable" (69 : Nat) ({ cls := "java/lang/Object", name := "getClass", desc := "()Ljava/lang/Class;" } : Jvm.MethodName)) ∈ lw_all := lw_g (lw_at lw_m6 72 rfl) rfl
theorem q1388 : (Jvm.Cond.methodLink "java/lang/Throwable" (78 : Nat) ({ cls := "java/lang/Throwable", name := "getLocalizedMessage", desc := "()Ljava/lang/String;" } : Jvm.MethodName)) ∈ lw_all := lw_g (lw_at lw_m6 73 rfl) rfl
theorem q1389 : (Jvm.Cond.instanceMethod ({ cls := "java/lang/Throwable", name := "getLocalizedMessage", desc := "()Ljava/lang/String;" } : Jvm.MethodName)) ∈ lw_all := lw_g (lw_at lw_m6 74 rfl) rfl
theorem q1390 : (Jvm.Cond.sameMethod "java/lang/Throwable" "java/lang/Throwable" "getLocalizedMessage" "()Ljava/lang/String;") ∈ lw_all := lw_g (lw_at lw_m6 75 rfl) rfl
theorem q1398 : (Jvm.Cond.code ({ cls := "java/lang/Throwable", name := "getLocalizedMessage", desc := "()Ljava/lang/String;" } : Jvm.MethodName) prog_38_method_7_code (1 : Nat) (Option.some (Jvm.ClassFile.FieldType.object "java/lang/String"))) ∈ lw_all := lw_g (lw_at lw_m6 83 rfl) rfl
theorem q1399 : (Jvm.Cond.methodLink "java/lang/Throwable" (39 : Nat) ({ cls := "java/lang/Throwable", name := "getMessage", desc := "()Ljava/lang/String;" } : Jvm.MethodName)) ∈ lw_all := lw_g (lw_at lw_m6 84 rfl) rfl
theorem q1400 : (Jvm.Cond.instanceMethod ({ cls := "java/lang/Throwable", name := "getMessage", desc := "()Ljava/lang/String;" } : Jvm.MethodName)) ∈ lw_all := lw_g (lw_at lw_m6 85 rfl) rfl
theorem q1401 : (Jvm.Cond.sameMethod "java/lang/Throwable" "java/lang/Throwable" "getMessage" "()Ljava/lang/String;") ∈ lw_all := lw_g (lw_at lw_m6 86 rfl) rfl
theorem q1409 : (Jvm.Cond.code ({ cls := "java/lang/Throwable", name := "getMessage", desc := "()Ljava/lang/String;" } : Jvm.MethodName) prog_38_method_6_code (1 : Nat) (Option.some (Jvm.ClassFile.FieldType.object "java/lang/String"))) ∈ lw_all := lw_g (lw_at lw_m6 94 rfl) rfl
theorem q1410 : (Jvm.Cond.classLink "java/lang/Throwable" (44 : Nat) "java/lang/StringBuilder") ∈ lw_all := lw_g (lw_at lw_m6 95 rfl) rfl
theorem q1411 : (Jvm.Cond.methodLink "java/lang/Throwable" (46 : Nat) ({ cls := "java/lang/StringBuilder", name := "<init>", desc := "()V" } : Jvm.MethodName)) ∈ lw_all := lw_g (lw_at lw_m6 96 rfl) rfl
theorem q1412 : (Jvm.Cond.methodLink "java/lang/Throwable" (49 : Nat) ({ cls := "java/lang/StringBuilder", name := "append", desc := "(Ljava/lang/String;)Ljava/lang/StringBuilder;" } : Jvm.MethodName)) ∈ lw_all := lw_g (lw_at lw_m6 97 rfl) rfl
theorem q1413 : (Jvm.Cond.stringRef "java/lang/Throwable" (81 : Nat) ": ") ∈ lw_tbl := lw_at lw_m6 98 rfl
theorem q1414 : (Jvm.Cond.methodLink "java/lang/Throwable" (60 : Nat) ({ cls := "java/lang/StringBuilder", name := "toString", desc := "()Ljava/lang/String;" } : Jvm.MethodName)) ∈ lw_all := lw_g (lw_at lw_m6 99 rfl) rfl
theorem q2835 : (Jvm.Cond.sameMethod "java/lang/Throwable" "java/lang/Throwable" "fillInStackTrace" "(I)Ljava/lang/Throwable;") ∈ lw_all := lw_g (lw_at lw_m12 80 rfl) rfl
theorem q2881 : (Jvm.Cond.castable "java/lang/Throwable" "java/lang/Object") ∈ lw_tbl := lw_at lw_m12 126 rfl
theorem in_J21 : ∀ w ∈ wsJ210, w ∈ lw_all := lw_in wsJ210 [360, 362, 364, 366, 368] (by decide +kernel) (by decide +kernel)
/-! java/lang/Exception -/
set_option maxRecDepth 100000
def RJ22 : String := "java/lang/Exception"
abbrev cJ22_init : ByteArray := prog_21_method_1_code
def yJ22_init : MethodName := ⟨RJ22, "<init>", "()V"⟩
theorem dJ22_init_0 : decode cJ22_init 0 = .ok (.aload_n 0, 1) := by decide +kernel
theorem dJ22_init_1 : decode cJ22_init 1 = .ok (.invokespecial 1, 3) := by decide +kernel
theorem dJ22_init_4 : decode cJ22_init 4 = .ok (.return_, 1) := by decide +kernel
abbrev cJ22_init_2 : ByteArray := prog_21_method_2_code
def yJ22_init_2 : MethodName := ⟨RJ22, "<init>", "(Ljava/lang/String;)V"⟩
def dkwJ22_init_2_0 : List UInt8 := [42, 43, 183, 0, 7, 177]
abbrev dktJ22_init_2_0 : List UInt8 := dkwJ22_init_2_0 ++ []
theorem dksJ22_init_2_0 : cJ22_init_2.data.toList.drop 0 = dktJ22_init_2_0 := by decide +kernel
theorem dJ22_init_2_0 : decode cJ22_init_2 0 = .ok (.aload_n 0, 1) := dk_42 (dk_at dksJ22_init_2_0 0 rfl rfl)
theorem dJ22_init_2_1 : decode cJ22_init_2 1 = .ok (.aload_n 1, 1) := dk_43 (dk_at dksJ22_init_2_0 1 rfl rfl)
theorem dJ22_init_2_2 : decode cJ22_init_2 2 = .ok (.invokespecial 7, 3) := dk_183 0 7 (dk_at dksJ22_init_2_0 2 rfl rfl)
theorem dJ22_init_2_5 : decode cJ22_init_2 5 = .ok (.return_, 1) := dk_177 (dk_at dksJ22_init_2_0 5 rfl rfl)
abbrev cJ22_init_3 : ByteArray := prog_21_method_5_code
def yJ22_init_3 : MethodName := ⟨RJ22, "<init>", "(Ljava/lang/String;Ljava/lang/Throwable;ZZ)V"⟩
def dkwJ22_init_3_0 : List UInt8 := [42, 43, 44, 29, 21, 4, 183, 0, 16, 177]
abbrev dktJ22_init_3_0 : List UInt8 := dkwJ22_init_3_0 ++ []
theorem dksJ22_init_3_0 : cJ22_init_3.data.toList.drop 0 = dktJ22_init_3_0 := by decide +kernel
theorem dJ22_init_3_0 : decode cJ22_init_3 0 = .ok (.aload_n 0, 1) := dk_42 (dk_at dksJ22_init_3_0 0 rfl rfl)
theorem dJ22_init_3_1 : decode cJ22_init_3 1 = .ok (.aload_n 1, 1) := dk_43 (dk_at dksJ22_init_3_0 1 rfl rfl)
theorem dJ22_init_3_2 : decode cJ22_init_3 2 = .ok (.aload_n 2, 1) := dk_44 (dk_at dksJ22_init_3_0 2 rfl rfl)
theorem dJ22_init_3_3 : decode cJ22_init_3 3 = .ok (.iload_n 3, 1) := dk_29 (dk_at dksJ22_init_3_0 3 rfl rfl)
theorem dJ22_init_3_4 : decode cJ22_init_3 4 = .ok (.iload 4, 2) := dk_21 4 (dk_at dksJ22_init_3_0 4 rfl rfl)
theorem dJ22_init_3_6 : decode cJ22_init_3 6 = .ok (.invokespecial 16, 3) := dk_183 0 16 (dk_at dksJ22_init_3_0 6 rfl rfl)
theorem dJ22_init_3_9 : decode cJ22_init_3 9 = .ok (.return_, 1) := dk_177 (dk_at dksJ22_init_3_0 9 rfl rfl)
abbrev cJ22_init_4 : ByteArray := prog_21_method_4_code
def yJ22_init_4 : MethodName := ⟨RJ22, "<init>", "(Ljava/lang/Throwable;)V"⟩
def dkwJ22_init_4_0 : List UInt8 := [42, 43, 183, 0, 13, 177]
abbrev dktJ22_init_4_0 : List UInt8 := dkwJ22_init_4_0 ++ []
theorem dksJ22_init_4_0 : cJ22_init_4.data.toList.drop 0 = dktJ22_init_4_0 := by decide +kernel
theorem dJ22_init_4_0 : decode cJ22_init_4 0 = .ok (.aload_n 0, 1) := dk_42 (dk_at dksJ22_init_4_0 0 rfl rfl)
theorem dJ22_init_4_1 : decode cJ22_init_4 1 = .ok (.aload_n 1, 1) := dk_43 (dk_at dksJ22_init_4_0 1 rfl rfl)
theorem dJ22_init_4_2 : decode cJ22_init_4 2 = .ok (.invokespecial 13, 3) := dk_183 0 13 (dk_at dksJ22_init_4_0 2 rfl rfl)
theorem dJ22_init_4_5 : decode cJ22_init_4 5 = .ok (.return_, 1) := dk_177 (dk_at dksJ22_init_4_0 5 rfl rfl)
theorem q144 : (Jvm.Cond.initialized "java/lang/Exception") ∈ lw_all := lw_g (lw_at lw_m1 29 rfl) rfl
theorem q353 : (Jvm.Cond.declares ({ cls := "java/lang/Exception", name := "<init>", desc := "()V" } : Jvm.MethodName)) ∈ lw_tbl := lw_at lw_m1 238 rfl
theorem q354 : (Jvm.Cond.declares ({ cls := "java/lang/Exception", name := "<init>", desc := "(Ljava/lang/String;)V" } : Jvm.MethodName)) ∈ lw_tbl := lw_at lw_m1 239 rfl
theorem q400 : (Jvm.Cond.instanceMethod ({ cls := "java/lang/Exception", name := "<init>", desc := "()V" } : Jvm.MethodName)) ∈ lw_all := lw_g (lw_at lw_m2 45 rfl) rfl
theorem q401 : (Jvm.Cond.code ({ cls := "java/lang/Exception", name := "<init>", desc := "()V" } : Jvm.MethodName) prog_21_method_1_code (1 : Nat) (Option.none : Option Jvm.ClassFile.FieldType)) ∈ lw_all := lw_g (lw_at lw_m2 46 rfl) rfl
theorem q402 : (Jvm.Cond.methodLink "java/lang/Exception" (1 : Nat) ({ cls := "java/lang/Throwable", name := "<init>", desc := "()V" } : Jvm.MethodName)) ∈ lw_all := lw_g (lw_at lw_m2 47 rfl) rfl
theorem q995 : (Jvm.Cond.instanceMethod ({ cls := "java/lang/Exception", name := "<init>", desc := "(Ljava/lang/String;)V" } : Jvm.MethodName)) ∈ lw_all := lw_g (lw_at lw_m4 160 rfl) rfl
theorem q996 : (Jvm.Cond.code ({ cls := "java/lang/Exception", name := "<init>", desc := "(Ljava/lang/String;)V" } : Jvm.MethodName) prog_21_method_2_code (2 : Nat) (Option.none : Option Jvm.ClassFile.FieldType)) ∈ lw_all := lw_g (lw_at lw_m4 161 rfl) rfl
theorem q997 : (Jvm.Cond.methodLink "java/lang/Exception" (7 : Nat) ({ cls := "java/lang/Throwable", name := "<init>", desc := "(Ljava/lang/String;)V" } : Jvm.MethodName)) ∈ lw_all := lw_g (lw_at lw_m4 162 rfl) rfl
theorem q1047 : (Jvm.Cond.instanceMethod ({ cls := "java/lang/Exception", name := "<init>", desc := "(Ljava/lang/String;Ljava/lang/Throwable;ZZ)V" } : Jvm.MethodName)) ∈ lw_all := lw_g (lw_at lw_m4 212 rfl) rfl
theorem q1048 : (Jvm.Cond.code ({ cls := "java/lang/Exception", name := "<init>", desc := "(Ljava/lang/String;Ljava/lang/Throwable;ZZ)V" } : Jvm.MethodName) prog_21_method_5_code (5 : Nat) (Option.none : Option Jvm.ClassFile.FieldType)) ∈ lw_all := lw_g (lw_at lw_m4 213 rfl) rfl
theorem q1049 : (Jvm.Cond.methodLink "java/lang/Exception" (16 : Nat) ({ cls := "java/lang/Throwable", name := "<init>", desc := "(Ljava/lang/String;Ljava/lang/Throwable;ZZ)V" } : Jvm.MethodName)) ∈ lw_all := lw_g (lw_at lw_m4 214 rfl) rfl
theorem q1371 : (Jvm.Cond.instanceMethod ({ cls := "java/lang/Exception", name := "<init>", desc := "(Ljava/lang/Throwable;)V" } : Jvm.MethodName)) ∈ lw_all := lw_g (lw_at lw_m6 56 rfl) rfl
theorem q1372 : (Jvm.Cond.code ({ cls := "java/lang/Exception", name := "<init>", desc := "(Ljava/lang/Throwable;)V" } : Jvm.MethodName) prog_21_method_4_code (2 : Nat) (Option.none : Option Jvm.ClassFile.FieldType)) ∈ lw_all := lw_g (lw_at lw_m6 57 rfl) rfl
theorem q1373 : (Jvm.Cond.methodLink "java/lang/Exception" (13 : Nat) ({ cls := "java/lang/Throwable", name := "<init>", desc := "(Ljava/lang/Throwable;)V" } : Jvm.MethodName)) ∈ lw_all := lw_g (lw_at lw_m6 58 rfl) rfl
/-! java/lang/RuntimeException -/
set_option maxRecDepth 100000
def RJ23 : String := "java/lang/RuntimeException"
abbrev cJ23_init : ByteArray := prog_31_method_1_code
def yJ23_init : MethodName := ⟨RJ23, "<init>", "()V"⟩
theorem dJ23_init_0 : decode cJ23_init 0 = .ok (.aload_n 0, 1) := by decide +kernel
theorem dJ23_init_1 : decode cJ23_init 1 = .ok (.invokespecial 1, 3) := by decide +kernel
theorem dJ23_init_4 : decode cJ23_init 4 = .ok (.return_, 1) := by decide +kernel
abbrev cJ23_init_2 : ByteArray := prog_31_method_2_code
def yJ23_init_2 : MethodName := ⟨RJ23, "<init>", "(Ljava/lang/String;)V"⟩
def dkwJ23_init_2_0 : List UInt8 := [42, 43, 183, 0, 7, 177]
abbrev dktJ23_init_2_0 : List UInt8 := dkwJ23_init_2_0 ++ []
theorem dksJ23_init_2_0 : cJ23_init_2.data.toList.drop 0 = dktJ23_init_2_0 := by decide +kernel
theorem dJ23_init_2_0 : decode cJ23_init_2 0 = .ok (.aload_n 0, 1) := dk_42 (dk_at dksJ23_init_2_0 0 rfl rfl)
theorem dJ23_init_2_1 : decode cJ23_init_2 1 = .ok (.aload_n 1, 1) := dk_43 (dk_at dksJ23_init_2_0 1 rfl rfl)
theorem dJ23_init_2_2 : decode cJ23_init_2 2 = .ok (.invokespecial 7, 3) := dk_183 0 7 (dk_at dksJ23_init_2_0 2 rfl rfl)
theorem dJ23_init_2_5 : decode cJ23_init_2 5 = .ok (.return_, 1) := dk_177 (dk_at dksJ23_init_2_0 5 rfl rfl)
abbrev cJ23_init_3 : ByteArray := prog_31_method_4_code
def yJ23_init_3 : MethodName := ⟨RJ23, "<init>", "(Ljava/lang/Throwable;)V"⟩
def dkwJ23_init_3_0 : List UInt8 := [42, 43, 183, 0, 13, 177]
abbrev dktJ23_init_3_0 : List UInt8 := dkwJ23_init_3_0 ++ []
theorem dksJ23_init_3_0 : cJ23_init_3.data.toList.drop 0 = dktJ23_init_3_0 := by decide +kernel
theorem dJ23_init_3_0 : decode cJ23_init_3 0 = .ok (.aload_n 0, 1) := dk_42 (dk_at dksJ23_init_3_0 0 rfl rfl)
theorem dJ23_init_3_1 : decode cJ23_init_3 1 = .ok (.aload_n 1, 1) := dk_43 (dk_at dksJ23_init_3_0 1 rfl rfl)
theorem dJ23_init_3_2 : decode cJ23_init_3 2 = .ok (.invokespecial 13, 3) := dk_183 0 13 (dk_at dksJ23_init_3_0 2 rfl rfl)
theorem dJ23_init_3_5 : decode cJ23_init_3 5 = .ok (.return_, 1) := dk_177 (dk_at dksJ23_init_3_0 5 rfl rfl)
theorem q145 : (Jvm.Cond.initialized "java/lang/RuntimeException") ∈ lw_all := lw_g (lw_at lw_m1 30 rfl) rfl
theorem q351 : (Jvm.Cond.declares ({ cls := "java/lang/RuntimeException", name := "<init>", desc := "()V" } : Jvm.MethodName)) ∈ lw_tbl := lw_at lw_m1 236 rfl
theorem q352 : (Jvm.Cond.declares ({ cls := "java/lang/RuntimeException", name := "<init>", desc := "(Ljava/lang/String;)V" } : Jvm.MethodName)) ∈ lw_tbl := lw_at lw_m1 237 rfl
theorem q397 : (Jvm.Cond.instanceMethod ({ cls := "java/lang/RuntimeException", name := "<init>", desc := "()V" } : Jvm.MethodName)) ∈ lw_all := lw_g (lw_at lw_m2 42 rfl) rfl
theorem q398 : (Jvm.Cond.code ({ cls := "java/lang/RuntimeException", name := "<init>", desc := "()V" } : Jvm.MethodName) prog_31_method_1_code (1 : Nat) (Option.none : Option Jvm.ClassFile.FieldType)) ∈ lw_all := lw_g (lw_at lw_m2 43 rfl) rfl
theorem q399 : (Jvm.Cond.methodLink "java/lang/RuntimeException" (1 : Nat) ({ cls := "java/lang/Exception", name := "<init>", desc := "()V" } : Jvm.MethodName)) ∈ lw_all := lw_g (lw_at lw_m2 44 rfl) rfl
theorem q992 : (Jvm.Cond.instanceMethod ({ cls := "java/lang/RuntimeException", name := "<init>", desc := "(Ljava/lang/String;)V" } : Jvm.MethodName)) ∈ lw_all := lw_g (lw_at lw_m4 157 rfl) rfl
theorem q993 : (Jvm.Cond.code ({ cls := "java/lang/RuntimeException", name := "<init>", desc := "(Ljava/lang/String;)V" } : Jvm.MethodName) prog_31_method_2_code (2 : Nat) (Option.none : Option Jvm.ClassFile.FieldType)) ∈ lw_all := lw_g (lw_at lw_m4 158 rfl) rfl
theorem q994 : (Jvm.Cond.methodLink "java/lang/RuntimeException" (7 : Nat) ({ cls := "java/lang/Exception", name := "<init>", desc := "(Ljava/lang/String;)V" } : Jvm.MethodName)) ∈ lw_all := lw_g (lw_at lw_m4 159 rfl) rfl
theorem q1368 : (Jvm.Cond.instanceMethod ({ cls := "java/lang/RuntimeException", name := "<init>", desc := "(Ljava/lang/Throwable;)V" } : Jvm.MethodName)) ∈ lw_all := lw_g (lw_at lw_m6 53 rfl) rfl
theorem q1369 : (Jvm.Cond.code ({ cls := "java/lang/RuntimeException", name := "<init>", desc := "(Ljava/lang/Throwable;)V" } : Jvm.MethodName) prog_31_method_4_code (2 : Nat) (Option.none : Option Jvm.ClassFile.FieldType)) ∈ lw_all := lw_g (lw_at lw_m6 54 rfl) rfl
theorem q1370 : (Jvm.Cond.methodLink "java/lang/RuntimeException" (13 : Nat) ({ cls := "java/lang/Exception", name := "<init>", desc := "(Ljava/lang/Throwable;)V" } : Jvm.MethodName)) ∈ lw_all := lw_g (lw_at lw_m6 55 rfl) rfl
/-! java/lang/IllegalArgumentException -/
set_option maxRecDepth 100000
def RJ24 : String := "java/lang/IllegalArgumentException"
def TJ24 : u_T := fun k => match k with
  | 0 => ("java/lang/Throwable", "cause", "Ljava/lang/Throwable;", false)
  | 1 => ("java/lang/Throwable", "stackTrace", "[Ljava/lang/StackTraceElement;", false)
  | 2 => ("java/lang/Throwable", "suppressedExceptions", "Ljava/util/List;", false)
  | 3 => ("java/lang/Throwable", "detailMessage", "Ljava/lang/String;", false)
  | 4 => ("java/lang/Throwable", "backtrace", "Ljava/lang/Object;", false)
  | _ => ("java/lang/Throwable", "depth", "I", false)
def tyJ24 : Nat → FieldType := fun k => match k with
  | 0 => .object "java/lang/Throwable"
  | 1 => .array (.object "java/lang/StackTraceElement")
  | 2 => .object "java/util/List"
  | 3 => .object "java/lang/String"
  | 4 => .object "java/lang/Object"
  | _ => .int
abbrev wsJ240 : List Cond := u_ws RJ24 TJ24 6
theorem nmJ24 : ∀ a, a < 6 → ∀ b, b < 6 → a ≠ b → (TJ24 a).2.1 ≠ (TJ24 b).2.1 := by decide +kernel
theorem tyJ24_ok : ∀ k, k < 6 → parseFieldDescriptor (TJ24 k).2.2.1 = some (tyJ24 k) := by decide +kernel
abbrev cJ24_init : ByteArray := prog_22_method_2_code
def yJ24_init : MethodName := ⟨RJ24, "<init>", "(Ljava/lang/String;)V"⟩
def dkwJ24_init_0 : List UInt8 := [42, 43, 183, 0, 7, 177]
abbrev dktJ24_init_0 : List UInt8 := dkwJ24_init_0 ++ []
theorem dksJ24_init_0 : cJ24_init.data.toList.drop 0 = dktJ24_init_0 := by decide +kernel
theorem dJ24_init_0 : decode cJ24_init 0 = .ok (.aload_n 0, 1) := dk_42 (dk_at dksJ24_init_0 0 rfl rfl)
theorem dJ24_init_1 : decode cJ24_init 1 = .ok (.aload_n 1, 1) := dk_43 (dk_at dksJ24_init_0 1 rfl rfl)
theorem dJ24_init_2 : decode cJ24_init 2 = .ok (.invokespecial 7, 3) := dk_183 0 7 (dk_at dksJ24_init_0 2 rfl rfl)
theorem dJ24_init_5 : decode cJ24_init 5 = .ok (.return_, 1) := dk_177 (dk_at dksJ24_init_0 5 rfl rfl)
abbrev cJ24_init_2 : ByteArray := prog_22_method_1_code
def yJ24_init_2 : MethodName := ⟨RJ24, "<init>", "()V"⟩
theorem dJ24_init_2_0 : decode cJ24_init_2 0 = .ok (.aload_n 0, 1) := by decide +kernel
theorem dJ24_init_2_1 : decode cJ24_init_2 1 = .ok (.invokespecial 1, 3) := by decide +kernel
theorem dJ24_init_2_4 : decode cJ24_init_2 4 = .ok (.return_, 1) := by decide +kernel
theorem q146 : (Jvm.Cond.initialized "java/lang/IllegalArgumentException") ∈ lw_all := lw_g (lw_at lw_m1 31 rfl) rfl
theorem q383 : (Jvm.Cond.selects "java/lang/IllegalArgumentException" ({ cls := "java/lang/Throwable", name := "fillInStackTrace", desc := "()Ljava/lang/Throwable;" } : Jvm.MethodName) ({ cls := "java/lang/Throwable", name := "fillInStackTrace", desc := "()Ljava/lang/Throwable;" } : Jvm.MethodName)) ∈ lw_all := lw_g (lw_at lw_m2 28 rfl) rfl
theorem q676 : (Jvm.Cond.selects "java/lang/IllegalArgumentException" ({ cls := "java/lang/Object", name := "getClass", desc := "()Ljava/lang/Class;" } : Jvm.MethodName) ({ cls := "java/lang/Object", name := "getClass", desc := "()Ljava/lang/Class;" } : Jvm.MethodName)) ∈ lw_all := lw_g (lw_at lw_m3 81 rfl) rfl
theorem q912 : (Jvm.Cond.instantiable "java/lang/IllegalArgumentException" (6 : Nat)) ∈ lw_all := lw_g (lw_at lw_m4 77 rfl) rfl
theorem q913 : (Jvm.Cond.castable "java/lang/IllegalArgumentException" "java/lang/IllegalArgumentException") ∈ lw_tbl := lw_at lw_m4 78 rfl
theorem q914 : (Jvm.Cond.selects "java/lang/IllegalArgumentException" ({ cls := "java/lang/Throwable", name := "fillInStackTrace", desc := "(I)Ljava/lang/Throwable;" } : Jvm.MethodName) ({ cls := "java/lang/Throwable", name := "fillInStackTrace", desc := "(I)Ljava/lang/Throwable;" } : Jvm.MethodName)) ∈ lw_all := lw_g (lw_at lw_m4 79 rfl) rfl
theorem q915 : (Jvm.Cond.lays "java/lang/IllegalArgumentException" "java/lang/Throwable" "cause" "Ljava/lang/Throwable;") ∈ lw_all := lw_g (lw_at lw_m4 80 rfl) rfl
theorem q916 : (Jvm.Cond.lays "java/lang/IllegalArgumentException" "java/lang/Throwable" "stackTrace" "[Ljava/lang/StackTraceElement;") ∈ lw_all := lw_g (lw_at lw_m4 81 rfl) rfl
theorem q917 : (Jvm.Cond.lays "java/lang/IllegalArgumentException" "java/lang/Throwable" "suppressedExceptions" "Ljava/util/List;") ∈ lw_all := lw_g (lw_at lw_m4 82 rfl) rfl
theorem q918 : (Jvm.Cond.lays "java/lang/IllegalArgumentException" "java/lang/Throwable" "detailMessage" "Ljava/lang/String;") ∈ lw_all := lw_g (lw_at lw_m4 83 rfl) rfl
theorem q919 : (Jvm.Cond.lays "java/lang/IllegalArgumentException" "java/lang/Throwable" "backtrace" "Ljava/lang/Object;") ∈ lw_all := lw_g (lw_at lw_m4 84 rfl) rfl
theorem q989 : (Jvm.Cond.instanceMethod ({ cls := "java/lang/IllegalArgumentException", name := "<init>", desc := "(Ljava/lang/String;)V" } : Jvm.MethodName)) ∈ lw_all := lw_g (lw_at lw_m4 154 rfl) rfl
theorem q990 : (Jvm.Cond.code ({ cls := "java/lang/IllegalArgumentException", name := "<init>", desc := "(Ljava/lang/String;)V" } : Jvm.MethodName) prog_22_method_2_code (2 : Nat) (Option.none : Option Jvm.ClassFile.FieldType)) ∈ lw_all := lw_g (lw_at lw_m4 155 rfl) rfl
theorem q991 : (Jvm.Cond.methodLink "java/lang/IllegalArgumentException" (7 : Nat) ({ cls := "java/lang/RuntimeException", name := "<init>", desc := "(Ljava/lang/String;)V" } : Jvm.MethodName)) ∈ lw_all := lw_g (lw_at lw_m4 156 rfl) rfl
theorem q1000 : (Jvm.Cond.lays "java/lang/IllegalArgumentException" "java/lang/Throwable" "depth" "I") ∈ lw_all := lw_g (lw_at lw_m4 165 rfl) rfl
theorem q1001 : (Jvm.Cond.superclass "java/lang/IllegalArgumentException" "java/lang/RuntimeException") ∈ lw_all := lw_g (lw_at lw_m4 166 rfl) rfl
theorem q1195 : (Jvm.Cond.selects "java/lang/IllegalArgumentException" ({ cls := "java/lang/Object", name := "equals", desc := "(Ljava/lang/Object;)Z" } : Jvm.MethodName) ({ cls := "java/lang/Object", name := "equals", desc := "(Ljava/lang/Object;)Z" } : Jvm.MethodName)) ∈ lw_all := lw_g (lw_at lw_m5 120 rfl) rfl
theorem q1381 : (Jvm.Cond.selects "java/lang/IllegalArgumentException" ({ cls := "java/lang/Throwable", name := "toString", desc := "()Ljava/lang/String;" } : Jvm.MethodName) ({ cls := "java/lang/Throwable", name := "toString", desc := "()Ljava/lang/String;" } : Jvm.MethodName)) ∈ lw_all := lw_g (lw_at lw_m6 66 rfl) rfl
theorem q1393 : (Jvm.Cond.selects "java/lang/IllegalArgumentException" ({ cls := "java/lang/Throwable", name := "getLocalizedMessage", desc := "()Ljava/lang/String;" } : Jvm.MethodName) ({ cls := "java/lang/Throwable", name := "getLocalizedMessage", desc := "()Ljava/lang/String;" } : Jvm.MethodName)) ∈ lw_all := lw_g (lw_at lw_m6 78 rfl) rfl
theorem q1404 : (Jvm.Cond.selects "java/lang/IllegalArgumentException" ({ cls := "java/lang/Throwable", name := "getMessage", desc := "()Ljava/lang/String;" } : Jvm.MethodName) ({ cls := "java/lang/Throwable", name := "getMessage", desc := "()Ljava/lang/String;" } : Jvm.MethodName)) ∈ lw_all := lw_g (lw_at lw_m6 89 rfl) rfl
theorem q1521 : (Jvm.Cond.instanceMethod ({ cls := "java/lang/IllegalArgumentException", name := "<init>", desc := "()V" } : Jvm.MethodName)) ∈ lw_all := lw_g (lw_at lw_m6 206 rfl) rfl
theorem q1522 : (Jvm.Cond.code ({ cls := "java/lang/IllegalArgumentException", name := "<init>", desc := "()V" } : Jvm.MethodName) prog_22_method_1_code (1 : Nat) (Option.none : Option Jvm.ClassFile.FieldType)) ∈ lw_all := lw_g (lw_at lw_m6 207 rfl) rfl
theorem q1523 : (Jvm.Cond.methodLink "java/lang/IllegalArgumentException" (1 : Nat) ({ cls := "java/lang/RuntimeException", name := "<init>", desc := "()V" } : Jvm.MethodName)) ∈ lw_all := lw_g (lw_at lw_m6 208 rfl) rfl
theorem q2864 : (Jvm.Cond.castable "java/lang/IllegalArgumentException" "java/lang/Object") ∈ lw_tbl := lw_at lw_m12 109 rfl
theorem in_J24 : ∀ w ∈ wsJ240, w ∈ lw_all := lw_in wsJ240 [915, 916, 917, 918, 919, 1000] (by decide +kernel) (by decide +kernel)
/-! java/lang/Number -/
set_option maxRecDepth 100000
def RJ25 : String := "java/lang/Number"
abbrev cJ25_init : ByteArray := prog_30_method_1_code
def yJ25_init : MethodName := ⟨RJ25, "<init>", "()V"⟩
theorem dJ25_init_0 : decode cJ25_init 0 = .ok (.aload_n 0, 1) := by decide +kernel
theorem dJ25_init_1 : decode cJ25_init 1 = .ok (.invokespecial 1, 3) := by decide +kernel
theorem dJ25_init_4 : decode cJ25_init 4 = .ok (.return_, 1) := by decide +kernel
theorem q147 : (Jvm.Cond.initialized "java/lang/Number") ∈ lw_all := lw_g (lw_at lw_m1 32 rfl) rfl
theorem q2048 : (Jvm.Cond.instanceMethod ({ cls := "java/lang/Number", name := "<init>", desc := "()V" } : Jvm.MethodName)) ∈ lw_all := lw_g (lw_at lw_m9 13 rfl) rfl
theorem q2049 : (Jvm.Cond.code ({ cls := "java/lang/Number", name := "<init>", desc := "()V" } : Jvm.MethodName) prog_30_method_1_code (1 : Nat) (Option.none : Option Jvm.ClassFile.FieldType)) ∈ lw_all := lw_g (lw_at lw_m9 14 rfl) rfl
theorem q2050 : (Jvm.Cond.methodLink "java/lang/Number" (1 : Nat) ({ cls := "java/lang/Object", name := "<init>", desc := "()V" } : Jvm.MethodName)) ∈ lw_all := lw_g (lw_at lw_m9 15 rfl) rfl
/-! java/lang/Integer -/
set_option maxRecDepth 100000
def RJ26 : String := "java/lang/Integer"
def TJ26 : u_T := fun k => match k with
  | _ => ("java/lang/Integer", "value", "I", true)
def tyJ26 : Nat → FieldType := fun k => match k with
  | _ => .int
abbrev wsJ260 : List Cond := u_ws RJ26 TJ26 1
theorem nmJ26 : ∀ a, a < 1 → ∀ b, b < 1 → a ≠ b → (TJ26 a).2.1 ≠ (TJ26 b).2.1 := by decide +kernel
theorem tyJ26_ok : ∀ k, k < 1 → parseFieldDescriptor (TJ26 k).2.2.1 = some (tyJ26 k) := by decide +kernel
abbrev cJ26_stringSize : ByteArray := prog_25_method_13_code
def yJ26_stringSize : MethodName := ⟨RJ26, "stringSize", "(I)I"⟩
def dkwJ26_stringSize_1 : List UInt8 := [164, 0, 7, 29, 27, 96, 172, 16, 10, 28, 104, 61, 132, 3, 1, 167, 255, 233, 16, 10, 27, 96, 172]
abbrev dktJ26_stringSize_1 : List UInt8 := dkwJ26_stringSize_1 ++ []
def dkwJ26_stringSize_0 : List UInt8 := [4, 60, 26, 155, 0, 8, 3, 60, 26, 116, 59, 16, 246, 61, 4, 62, 29, 16, 10, 162, 0, 23, 26, 28]
abbrev dktJ26_stringSize_0 : List UInt8 := dkwJ26_stringSize_0 ++ dktJ26_stringSize_1
theorem dksJ26_stringSize_0 : cJ26_stringSize.data.toList.drop 0 = dktJ26_stringSize_0 := by decide +kernel
theorem dksJ26_stringSize_1 : cJ26_stringSize.data.toList.drop 24 = dktJ26_stringSize_1 := dk_seg dksJ26_stringSize_0 24 rfl rfl
theorem dJ26_stringSize_0 : decode cJ26_stringSize 0 = .ok (.iconst 1, 1) := dk_4 (dk_at dksJ26_stringSize_0 0 rfl rfl)
theorem dJ26_stringSize_1 : decode cJ26_stringSize 1 = .ok (.istore_n 1, 1) := dk_60 (dk_at dksJ26_stringSize_0 1 rfl rfl)
theorem dJ26_stringSize_2 : decode cJ26_stringSize 2 = .ok (.iload_n 0, 1) := dk_26 (dk_at dksJ26_stringSize_0 2 rfl rfl)
theorem dJ26_stringSize_3 : decode cJ26_stringSize 3 = .ok (.ifCond .lt 8, 3) := dk_155 0 8 (dk_at dksJ26_stringSize_0 3 rfl rfl)
theorem dJ26_stringSize_6 : decode cJ26_stringSize 6 = .ok (.iconst 0, 1) := dk_3 (dk_at dksJ26_stringSize_0 6 rfl rfl)
theorem dJ26_stringSize_7 : decode cJ26_stringSize 7 = .ok (.istore_n 1, 1) := dk_60 (dk_at dksJ26_stringSize_0 7 rfl rfl)
theorem dJ26_stringSize_8 : decode cJ26_stringSize 8 = .ok (.iload_n 0, 1) := dk_26 (dk_at dksJ26_stringSize_0 8 rfl rfl)
theorem dJ26_stringSize_9 : decode cJ26_stringSize 9 = .ok (.ineg, 1) := dk_116 (dk_at dksJ26_stringSize_0 9 rfl rfl)
theorem dJ26_stringSize_10 : decode cJ26_stringSize 10 = .ok (.istore_n 0, 1) := dk_59 (dk_at dksJ26_stringSize_0 10 rfl rfl)
theorem dJ26_stringSize_11 : decode cJ26_stringSize 11 = .ok (.bipush (-10), 2) := dk_16 246 (dk_at dksJ26_stringSize_0 11 rfl rfl)
theorem dJ26_stringSize_13 : decode cJ26_stringSize 13 = .ok (.istore_n 2, 1) := dk_61 (dk_at dksJ26_stringSize_0 13 rfl rfl)
theorem dJ26_stringSize_14 : decode cJ26_stringSize 14 = .ok (.iconst 1, 1) := dk_4 (dk_at dksJ26_stringSize_0 14 rfl rfl)
theorem dJ26_stringSize_15 : decode cJ26_stringSize 15 = .ok (.istore_n 3, 1) := dk_62 (dk_at dksJ26_stringSize_0 15 rfl rfl)
theorem dJ26_stringSize_16 : decode cJ26_stringSize 16 = .ok (.iload_n 3, 1) := dk_29 (dk_at dksJ26_stringSize_0 16 rfl rfl)
theorem dJ26_stringSize_17 : decode cJ26_stringSize 17 = .ok (.bipush 10, 2) := dk_16 10 (dk_at dksJ26_stringSize_0 17 rfl rfl)
theorem dJ26_stringSize_19 : decode cJ26_stringSize 19 = .ok (.if_icmp .ge 23, 3) := dk_162 0 23 (dk_at dksJ26_stringSize_0 19 rfl rfl)
theorem dJ26_stringSize_22 : decode cJ26_stringSize 22 = .ok (.iload_n 0, 1) := dk_26 (dk_at dksJ26_stringSize_0 22 rfl rfl)
theorem dJ26_stringSize_23 : decode cJ26_stringSize 23 = .ok (.iload_n 2, 1) := dk_28 (dk_at dksJ26_stringSize_0 23 rfl rfl)
theorem dJ26_stringSize_24 : decode cJ26_stringSize 24 = .ok (.if_icmp .le 7, 3) := dk_164 0 7 (dk_at dksJ26_stringSize_1 0 rfl rfl)
theorem dJ26_stringSize_27 : decode cJ26_stringSize 27 = .ok (.iload_n 3, 1) := dk_29 (dk_at dksJ26_stringSize_1 3 rfl rfl)
theorem dJ26_stringSize_28 : decode cJ26_stringSize 28 = .ok (.iload_n 1, 1) := dk_27 (dk_at dksJ26_stringSize_1 4 rfl rfl)
theorem dJ26_stringSize_29 : decode cJ26_stringSize 29 = .ok (.iadd, 1) := dk_96 (dk_at dksJ26_stringSize_1 5 rfl rfl)
theorem dJ26_stringSize_30 : decode cJ26_stringSize 30 = .ok (.ireturn, 1) := dk_172 (dk_at dksJ26_stringSize_1 6 rfl rfl)
theorem dJ26_stringSize_31 : decode cJ26_stringSize 31 = .ok (.bipush 10, 2) := dk_16 10 (dk_at dksJ26_stringSize_1 7 rfl rfl)
theorem dJ26_stringSize_33 : decode cJ26_stringSize 33 = .ok (.iload_n 2, 1) := dk_28 (dk_at dksJ26_stringSize_1 9 rfl rfl)
theorem dJ26_stringSize_34 : decode cJ26_stringSize 34 = .ok (.imul, 1) := dk_104 (dk_at dksJ26_stringSize_1 10 rfl rfl)
theorem dJ26_stringSize_35 : decode cJ26_stringSize 35 = .ok (.istore_n 2, 1) := dk_61 (dk_at dksJ26_stringSize_1 11 rfl rfl)
theorem dJ26_stringSize_36 : decode cJ26_stringSize 36 = .ok (.iinc 3 1, 3) := dk_132 3 1 (dk_at dksJ26_stringSize_1 12 rfl rfl)
theorem dJ26_stringSize_39 : decode cJ26_stringSize 39 = .ok (.goto (-23), 3) := dk_167 255 233 (dk_at dksJ26_stringSize_1 15 rfl rfl)
theorem dJ26_stringSize_42 : decode cJ26_stringSize 42 = .ok (.bipush 10, 2) := dk_16 10 (dk_at dksJ26_stringSize_1 18 rfl rfl)
theorem dJ26_stringSize_44 : decode cJ26_stringSize 44 = .ok (.iload_n 1, 1) := dk_27 (dk_at dksJ26_stringSize_1 20 rfl rfl)
theorem dJ26_stringSize_45 : decode cJ26_stringSize 45 = .ok (.iadd, 1) := dk_96 (dk_at dksJ26_stringSize_1 21 rfl rfl)
theorem dJ26_stringSize_46 : decode cJ26_stringSize 46 = .ok (.ireturn, 1) := dk_172 (dk_at dksJ26_stringSize_1 22 rfl rfl)
abbrev cJ26_getChars : ByteArray := prog_25_method_12_code
def yJ26_getChars : MethodName := ⟨RJ26, "getChars", "(II[B)I"⟩
def dkwJ26_getChars_5 : List UInt8 := [16, 45, 84, 21, 5, 172]
abbrev dktJ26_getChars_5 : List UInt8 := dkwJ26_getChars_5 ++ []
def dkwJ26_getChars_4 : List UInt8 := [132, 5, 255, 21, 5, 178, 0, 87, 26, 116, 51, 84, 21, 6, 153, 0, 12, 44, 132, 5, 255, 21, 5]
abbrev dktJ26_getChars_4 : List UInt8 := dkwJ26_getChars_4 ++ dktJ26_getChars_5
def dkwJ26_getChars_3 : List UInt8 := [167, 255, 209, 44, 132, 5, 255, 21, 5, 178, 0, 83, 26, 116, 51, 84, 26, 16, 247, 162, 0, 16, 44]
abbrev dktJ26_getChars_3 : List UInt8 := dkwJ26_getChars_3 ++ dktJ26_getChars_4
def dkwJ26_getChars_2 : List UInt8 := [21, 5, 178, 0, 83, 21, 4, 51, 84, 44, 132, 5, 255, 21, 5, 178, 0, 87, 21, 4, 51, 84]
abbrev dktJ26_getChars_2 : List UInt8 := dkwJ26_getChars_2 ++ dktJ26_getChars_3
def dkwJ26_getChars_1 : List UInt8 := [16, 156, 163, 0, 47, 26, 16, 100, 108, 62, 29, 16, 100, 104, 26, 100, 54, 4, 29, 59, 44, 132, 5, 255]
abbrev dktJ26_getChars_1 : List UInt8 := dkwJ26_getChars_1 ++ dktJ26_getChars_2
def dkwJ26_getChars_0 : List UInt8 := [27, 54, 5, 26, 156, 0, 7, 4, 167, 0, 4, 3, 54, 6, 21, 6, 154, 0, 6, 26, 116, 59, 26]
abbrev dktJ26_getChars_0 : List UInt8 := dkwJ26_getChars_0 ++ dktJ26_getChars_1
theorem dksJ26_getChars_0 : cJ26_getChars.data.toList.drop 0 = dktJ26_getChars_0 := by decide +kernel
theorem dksJ26_getChars_1 : cJ26_getChars.data.toList.drop 23 = dktJ26_getChars_1 := dk_seg dksJ26_getChars_0 23 rfl rfl
theorem dksJ26_getChars_2 : cJ26_getChars.data.toList.drop 47 = dktJ26_getChars_2 := dk_seg dksJ26_getChars_1 24 rfl rfl
theorem dksJ26_getChars_3 : cJ26_getChars.data.toList.drop 69 = dktJ26_getChars_3 := dk_seg dksJ26_getChars_2 22 rfl rfl
theorem dksJ26_getChars_4 : cJ26_getChars.data.toList.drop 92 = dktJ26_getChars_4 := dk_seg dksJ26_getChars_3 23 rfl rfl
theorem dksJ26_getChars_5 : cJ26_getChars.data.toList.drop 115 = dktJ26_getChars_5 := dk_seg dksJ26_getChars_4 23 rfl rfl
theorem dJ26_getChars_0 : decode cJ26_getChars 0 = .ok (.iload_n 1, 1) := dk_27 (dk_at dksJ26_getChars_0 0 rfl rfl)
theorem dJ26_getChars_1 : decode cJ26_getChars 1 = .ok (.istore 5, 2) := dk_54 5 (dk_at dksJ26_getChars_0 1 rfl rfl)
theorem dJ26_getChars_3 : decode cJ26_getChars 3 = .ok (.iload_n 0, 1) := dk_26 (dk_at dksJ26_getChars_0 3 rfl rfl)
theorem dJ26_getChars_4 : decode cJ26_getChars 4 = .ok (.ifCond .ge 7, 3) := dk_156 0 7 (dk_at dksJ26_getChars_0 4 rfl rfl)
theorem dJ26_getChars_7 : decode cJ26_getChars 7 = .ok (.iconst 1, 1) := dk_4 (dk_at dksJ26_getChars_0 7 rfl rfl)
theorem dJ26_getChars_8 : decode cJ26_getChars 8 = .ok (.goto 4, 3) := dk_167 0 4 (dk_at dksJ26_getChars_0 8 rfl rfl)
theorem dJ26_getChars_11 : decode cJ26_getChars 11 = .ok (.iconst 0, 1) := dk_3 (dk_at dksJ26_getChars_0 11 rfl rfl)
theorem dJ26_getChars_12 : decode cJ26_getChars 12 = .ok (.istore 6, 2) := dk_54 6 (dk_at dksJ26_getChars_0 12 rfl rfl)
theorem dJ26_getChars_14 : decode cJ26_getChars 14 = .ok (.iload 6, 2) := dk_21 6 (dk_at dksJ26_getChars_0 14 rfl rfl)
theorem dJ26_getChars_16 : decode cJ26_getChars 16 = .ok (.ifCond .ne 6, 3) := dk_154 0 6 (dk_at dksJ26_getChars_0 16 rfl rfl)
theorem dJ26_getChars_19 : decode cJ26_getChars 19 = .ok (.iload_n 0, 1) := dk_26 (dk_at dksJ26_getChars_0 19 rfl rfl)
theorem dJ26_getChars_20 : decode cJ26_getChars 20 = .ok (.ineg, 1) := dk_116 (dk_at dksJ26_getChars_0 20 rfl rfl)
theorem dJ26_getChars_21 : decode cJ26_getChars 21 = .ok (.istore_n 0, 1) := dk_59 (dk_at dksJ26_getChars_0 21 rfl rfl)
theorem dJ26_getChars_22 : decode cJ26_getChars 22 = .ok (.iload_n 0, 1) := dk_26 (dk_at dksJ26_getChars_0 22 rfl rfl)
theorem dJ26_getChars_23 : decode cJ26_getChars 23 = .ok (.bipush (-100), 2) := dk_16 156 (dk_at dksJ26_getChars_1 0 rfl rfl)
theorem dJ26_getChars_25 : decode cJ26_getChars 25 = .ok (.if_icmp .gt 47, 3) := dk_163 0 47 (dk_at dksJ26_getChars_1 2 rfl rfl)
theorem dJ26_getChars_28 : decode cJ26_getChars 28 = .ok (.iload_n 0, 1) := dk_26 (dk_at dksJ26_getChars_1 5 rfl rfl)
theorem dJ26_getChars_29 : decode cJ26_getChars 29 = .ok (.bipush 100, 2) := dk_16 100 (dk_at dksJ26_getChars_1 6 rfl rfl)
theorem dJ26_getChars_31 : decode cJ26_getChars 31 = .ok (.idiv, 1) := dk_108 (dk_at dksJ26_getChars_1 8 rfl rfl)
theorem dJ26_getChars_32 : decode cJ26_getChars 32 = .ok (.istore_n 3, 1) := dk_62 (dk_at dksJ26_getChars_1 9 rfl rfl)
theorem dJ26_getChars_33 : decode cJ26_getChars 33 = .ok (.iload_n 3, 1) := dk_29 (dk_at dksJ26_getChars_1 10 rfl rfl)
theorem dJ26_getChars_34 : decode cJ26_getChars 34 = .ok (.bipush 100, 2) := dk_16 100 (dk_at dksJ26_getChars_1 11 rfl rfl)
theorem dJ26_getChars_36 : decode cJ26_getChars 36 = .ok (.imul, 1) := dk_104 (dk_at dksJ26_getChars_1 13 rfl rfl)
theorem dJ26_getChars_37 : decode cJ26_getChars 37 = .ok (.iload_n 0, 1) := dk_26 (dk_at dksJ26_getChars_1 14 rfl rfl)
theorem dJ26_getChars_38 : decode cJ26_getChars 38 = .ok (.isub, 1) := dk_100 (dk_at dksJ26_getChars_1 15 rfl rfl)
theorem dJ26_getChars_39 : decode cJ26_getChars 39 = .ok (.istore 4, 2) := dk_54 4 (dk_at dksJ26_getChars_1 16 rfl rfl)
theorem dJ26_getChars_41 : decode cJ26_getChars 41 = .ok (.iload_n 3, 1) := dk_29 (dk_at dksJ26_getChars_1 18 rfl rfl)
theorem dJ26_getChars_42 : decode cJ26_getChars 42 = .ok (.istore_n 0, 1) := dk_59 (dk_at dksJ26_getChars_1 19 rfl rfl)
theorem dJ26_getChars_43 : decode cJ26_getChars 43 = .ok (.aload_n 2, 1) := dk_44 (dk_at dksJ26_getChars_1 20 rfl rfl)
theorem dJ26_getChars_44 : decode cJ26_getChars 44 = .ok (.iinc 5 (-1), 3) := dk_132 5 255 (dk_at dksJ26_getChars_1 21 rfl rfl)
theorem dJ26_getChars_47 : decode cJ26_getChars 47 = .ok (.iload 5, 2) := dk_21 5 (dk_at dksJ26_getChars_2 0 rfl rfl)
theorem dJ26_getChars_49 : decode cJ26_getChars 49 = .ok (.getstatic 83, 3) := dk_178 0 83 (dk_at dksJ26_getChars_2 2 rfl rfl)
theorem dJ26_getChars_52 : decode cJ26_getChars 52 = .ok (.iload 4, 2) := dk_21 4 (dk_at dksJ26_getChars_2 5 rfl rfl)
theorem dJ26_getChars_54 : decode cJ26_getChars 54 = .ok (.baload, 1) := dk_51 (dk_at dksJ26_getChars_2 7 rfl rfl)
theorem dJ26_getChars_55 : decode cJ26_getChars 55 = .ok (.bastore, 1) := dk_84 (dk_at dksJ26_getChars_2 8 rfl rfl)
theorem dJ26_getChars_56 : decode cJ26_getChars 56 = .ok (.aload_n 2, 1) := dk_44 (dk_at dksJ26_getChars_2 9 rfl rfl)
theorem dJ26_getChars_57 : decode cJ26_getChars 57 = .ok (.iinc 5 (-1), 3) := dk_132 5 255 (dk_at dksJ26_getChars_2 10 rfl rfl)
theorem dJ26_getChars_60 : decode cJ26_getChars 60 = .ok (.iload 5, 2) := dk_21 5 (dk_at dksJ26_getChars_2 13 rfl rfl)
theorem dJ26_getChars_62 : decode cJ26_getChars 62 = .ok (.getstatic 87, 3) := dk_178 0 87 (dk_at dksJ26_getChars_2 15 rfl rfl)
theorem dJ26_getChars_65 : decode cJ26_getChars 65 = .ok (.iload 4, 2) := dk_21 4 (dk_at dksJ26_getChars_2 18 rfl rfl)
theorem dJ26_getChars_67 : decode cJ26_getChars 67 = .ok (.baload, 1) := dk_51 (dk_at dksJ26_getChars_2 20 rfl rfl)
theorem dJ26_getChars_68 : decode cJ26_getChars 68 = .ok (.bastore, 1) := dk_84 (dk_at dksJ26_getChars_2 21 rfl rfl)
theorem dJ26_getChars_69 : decode cJ26_getChars 69 = .ok (.goto (-47), 3) := dk_167 255 209 (dk_at dksJ26_getChars_3 0 rfl rfl)
theorem dJ26_getChars_72 : decode cJ26_getChars 72 = .ok (.aload_n 2, 1) := dk_44 (dk_at dksJ26_getChars_3 3 rfl rfl)
theorem dJ26_getChars_73 : decode cJ26_getChars 73 = .ok (.iinc 5 (-1), 3) := dk_132 5 255 (dk_at dksJ26_getChars_3 4 rfl rfl)
theorem dJ26_getChars_76 : decode cJ26_getChars 76 = .ok (.iload 5, 2) := dk_21 5 (dk_at dksJ26_getChars_3 7 rfl rfl)
theorem dJ26_getChars_78 : decode cJ26_getChars 78 = .ok (.getstatic 83, 3) := dk_178 0 83 (dk_at dksJ26_getChars_3 9 rfl rfl)
theorem dJ26_getChars_81 : decode cJ26_getChars 81 = .ok (.iload_n 0, 1) := dk_26 (dk_at dksJ26_getChars_3 12 rfl rfl)
theorem dJ26_getChars_82 : decode cJ26_getChars 82 = .ok (.ineg, 1) := dk_116 (dk_at dksJ26_getChars_3 13 rfl rfl)
theorem dJ26_getChars_83 : decode cJ26_getChars 83 = .ok (.baload, 1) := dk_51 (dk_at dksJ26_getChars_3 14 rfl rfl)
theorem dJ26_getChars_84 : decode cJ26_getChars 84 = .ok (.bastore, 1) := dk_84 (dk_at dksJ26_getChars_3 15 rfl rfl)
theorem dJ26_getChars_85 : decode cJ26_getChars 85 = .ok (.iload_n 0, 1) := dk_26 (dk_at dksJ26_getChars_3 16 rfl rfl)
theorem dJ26_getChars_86 : decode cJ26_getChars 86 = .ok (.bipush (-9), 2) := dk_16 247 (dk_at dksJ26_getChars_3 17 rfl rfl)
theorem dJ26_getChars_88 : decode cJ26_getChars 88 = .ok (.if_icmp .ge 16, 3) := dk_162 0 16 (dk_at dksJ26_getChars_3 19 rfl rfl)
theorem dJ26_getChars_91 : decode cJ26_getChars 91 = .ok (.aload_n 2, 1) := dk_44 (dk_at dksJ26_getChars_3 22 rfl rfl)
theorem dJ26_getChars_92 : decode cJ26_getChars 92 = .ok (.iinc 5 (-1), 3) := dk_132 5 255 (dk_at dksJ26_getChars_4 0 rfl rfl)
theorem dJ26_getChars_95 : decode cJ26_getChars 95 = .ok (.iload 5, 2) := dk_21 5 (dk_at dksJ26_getChars_4 3 rfl rfl)
theorem dJ26_getChars_97 : decode cJ26_getChars 97 = .ok (.getstatic 87, 3) := dk_178 0 87 (dk_at dksJ26_getChars_4 5 rfl rfl)
theorem dJ26_getChars_100 : decode cJ26_getChars 100 = .ok (.iload_n 0, 1) := dk_26 (dk_at dksJ26_getChars_4 8 rfl rfl)
theorem dJ26_getChars_101 : decode cJ26_getChars 101 = .ok (.ineg, 1) := dk_116 (dk_at dksJ26_getChars_4 9 rfl rfl)
theorem dJ26_getChars_102 : decode cJ26_getChars 102 = .ok (.baload, 1) := dk_51 (dk_at dksJ26_getChars_4 10 rfl rfl)
theorem dJ26_getChars_103 : decode cJ26_getChars 103 = .ok (.bastore, 1) := dk_84 (dk_at dksJ26_getChars_4 11 rfl rfl)
theorem dJ26_getChars_104 : decode cJ26_getChars 104 = .ok (.iload 6, 2) := dk_21 6 (dk_at dksJ26_getChars_4 12 rfl rfl)
theorem dJ26_getChars_106 : decode cJ26_getChars 106 = .ok (.ifCond .eq 12, 3) := dk_153 0 12 (dk_at dksJ26_getChars_4 14 rfl rfl)
theorem dJ26_getChars_109 : decode cJ26_getChars 109 = .ok (.aload_n 2, 1) := dk_44 (dk_at dksJ26_getChars_4 17 rfl rfl)
theorem dJ26_getChars_110 : decode cJ26_getChars 110 = .ok (.iinc 5 (-1), 3) := dk_132 5 255 (dk_at dksJ26_getChars_4 18 rfl rfl)
theorem dJ26_getChars_113 : decode cJ26_getChars 113 = .ok (.iload 5, 2) := dk_21 5 (dk_at dksJ26_getChars_4 21 rfl rfl)
theorem dJ26_getChars_115 : decode cJ26_getChars 115 = .ok (.bipush 45, 2) := dk_16 45 (dk_at dksJ26_getChars_5 0 rfl rfl)
theorem dJ26_getChars_117 : decode cJ26_getChars 117 = .ok (.bastore, 1) := dk_84 (dk_at dksJ26_getChars_5 2 rfl rfl)
theorem dJ26_getChars_118 : decode cJ26_getChars 118 = .ok (.iload 5, 2) := dk_21 5 (dk_at dksJ26_getChars_5 3 rfl rfl)
theorem dJ26_getChars_120 : decode cJ26_getChars 120 = .ok (.ireturn, 1) := dk_172 (dk_at dksJ26_getChars_5 5 rfl rfl)
abbrev cJ26_equals : ByteArray := prog_25_method_34_code
def yJ26_equals : MethodName := ⟨RJ26, "equals", "(Ljava/lang/Object;)Z"⟩
def dkwJ26_equals_1 : List UInt8 := [167, 0, 4, 3, 172, 3, 172]
abbrev dktJ26_equals_1 : List UInt8 := dkwJ26_equals_1 ++ []
def dkwJ26_equals_0 : List UInt8 := [43, 193, 0, 1, 153, 0, 23, 42, 180, 0, 205, 43, 192, 0, 1, 182, 0, 211, 160, 0, 7, 4]
abbrev dktJ26_equals_0 : List UInt8 := dkwJ26_equals_0 ++ dktJ26_equals_1
theorem dksJ26_equals_0 : cJ26_equals.data.toList.drop 0 = dktJ26_equals_0 := by decide +kernel
theorem dksJ26_equals_1 : cJ26_equals.data.toList.drop 22 = dktJ26_equals_1 := dk_seg dksJ26_equals_0 22 rfl rfl
theorem dJ26_equals_0 : decode cJ26_equals 0 = .ok (.aload_n 1, 1) := dk_43 (dk_at dksJ26_equals_0 0 rfl rfl)
theorem dJ26_equals_1 : decode cJ26_equals 1 = .ok (.instanceof 1, 3) := dk_193 0 1 (dk_at dksJ26_equals_0 1 rfl rfl)
theorem dJ26_equals_4 : decode cJ26_equals 4 = .ok (.ifCond .eq 23, 3) := dk_153 0 23 (dk_at dksJ26_equals_0 4 rfl rfl)
theorem dJ26_equals_7 : decode cJ26_equals 7 = .ok (.aload_n 0, 1) := dk_42 (dk_at dksJ26_equals_0 7 rfl rfl)
theorem dJ26_equals_8 : decode cJ26_equals 8 = .ok (.getfield 205, 3) := dk_180 0 205 (dk_at dksJ26_equals_0 8 rfl rfl)
theorem dJ26_equals_11 : decode cJ26_equals 11 = .ok (.aload_n 1, 1) := dk_43 (dk_at dksJ26_equals_0 11 rfl rfl)
theorem dJ26_equals_12 : decode cJ26_equals 12 = .ok (.checkcast 1, 3) := dk_192 0 1 (dk_at dksJ26_equals_0 12 rfl rfl)
theorem dJ26_equals_15 : decode cJ26_equals 15 = .ok (.invokevirtual 211, 3) := dk_182 0 211 (dk_at dksJ26_equals_0 15 rfl rfl)
theorem dJ26_equals_18 : decode cJ26_equals 18 = .ok (.if_icmp .ne 7, 3) := dk_160 0 7 (dk_at dksJ26_equals_0 18 rfl rfl)
theorem dJ26_equals_21 : decode cJ26_equals 21 = .ok (.iconst 1, 1) := dk_4 (dk_at dksJ26_equals_0 21 rfl rfl)
theorem dJ26_equals_22 : decode cJ26_equals 22 = .ok (.goto 4, 3) := dk_167 0 4 (dk_at dksJ26_equals_1 0 rfl rfl)
theorem dJ26_equals_25 : decode cJ26_equals 25 = .ok (.iconst 0, 1) := dk_3 (dk_at dksJ26_equals_1 3 rfl rfl)
theorem dJ26_equals_26 : decode cJ26_equals 26 = .ok (.ireturn, 1) := dk_172 (dk_at dksJ26_equals_1 4 rfl rfl)
theorem dJ26_equals_27 : decode cJ26_equals 27 = .ok (.iconst 0, 1) := dk_3 (dk_at dksJ26_equals_1 5 rfl rfl)
theorem dJ26_equals_28 : decode cJ26_equals 28 = .ok (.ireturn, 1) := dk_172 (dk_at dksJ26_equals_1 6 rfl rfl)
abbrev cJ26_intValue : ByteArray := prog_25_method_27_code
def yJ26_intValue : MethodName := ⟨RJ26, "intValue", "()I"⟩
theorem dJ26_intValue_0 : decode cJ26_intValue 0 = .ok (.aload_n 0, 1) := by decide +kernel
theorem dJ26_intValue_1 : decode cJ26_intValue 1 = .ok (.getfield 205, 3) := by decide +kernel
theorem dJ26_intValue_4 : decode cJ26_intValue 4 = .ok (.ireturn, 1) := by decide +kernel
abbrev cJ26_numberOfTrailingZeros : ByteArray := prog_25_method_48_code
def yJ26_numberOfTrailingZeros : MethodName := ⟨RJ26, "numberOfTrailingZeros", "(I)I"⟩
def dkwJ26_numberOfTrailingZeros_3 : List UInt8 := [5, 124, 59, 27, 26, 4, 124, 96, 172]
abbrev dktJ26_numberOfTrailingZeros_3 : List UInt8 := dkwJ26_numberOfTrailingZeros_3 ++ []
def dkwJ26_numberOfTrailingZeros_2 : List UInt8 := [124, 59, 26, 16, 16, 164, 0, 10, 132, 1, 4, 26, 7, 124, 59, 26, 7, 164, 0, 10, 132, 1, 2, 26]
abbrev dktJ26_numberOfTrailingZeros_2 : List UInt8 := dkwJ26_numberOfTrailingZeros_2 ++ dktJ26_numberOfTrailingZeros_3
def dkwJ26_numberOfTrailingZeros_1 : List UInt8 := [164, 0, 11, 132, 1, 16, 26, 16, 16, 124, 59, 26, 17, 1, 0, 164, 0, 11, 132, 1, 8, 26, 16, 8]
abbrev dktJ26_numberOfTrailingZeros_1 : List UInt8 := dkwJ26_numberOfTrailingZeros_1 ++ dktJ26_numberOfTrailingZeros_2
def dkwJ26_numberOfTrailingZeros_0 : List UInt8 := [26, 2, 130, 26, 4, 100, 126, 59, 26, 157, 0, 8, 26, 16, 32, 126, 172, 4, 60, 26, 19, 1, 8]
abbrev dktJ26_numberOfTrailingZeros_0 : List UInt8 := dkwJ26_numberOfTrailingZeros_0 ++ dktJ26_numberOfTrailingZeros_1
theorem dksJ26_numberOfTrailingZeros_0 : cJ26_numberOfTrailingZeros.data.toList.drop 0 = dktJ26_numberOfTrailingZeros_0 := by decide +kernel
theorem dksJ26_numberOfTrailingZeros_1 : cJ26_numberOfTrailingZeros.data.toList.drop 23 = dktJ26_numberOfTrailingZeros_1 := dk_seg dksJ26_numberOfTrailingZeros_0 23 rfl rfl
theorem dksJ26_numberOfTrailingZeros_2 : cJ26_numberOfTrailingZeros.data.toList.drop 47 = dktJ26_numberOfTrailingZeros_2 := dk_seg dksJ26_numberOfTrailingZeros_1 24 rfl rfl
theorem dksJ26_numberOfTrailingZeros_3 : cJ26_numberOfTrailingZeros.data.toList.drop 71 = dktJ26_numberOfTrailingZeros_3 := dk_seg dksJ26_numberOfTrailingZeros_2 24 rfl rfl
theorem dJ26_numberOfTrailingZeros_0 : decode cJ26_numberOfTrailingZeros 0 = .ok (.iload_n 0, 1) := dk_26 (dk_at dksJ26_numberOfTrailingZeros_0 0 rfl rfl)
theorem dJ26_numberOfTrailingZeros_1 : decode cJ26_numberOfTrailingZeros 1 = .ok (.iconst (-1), 1) := dk_2 (dk_at dksJ26_numberOfTrailingZeros_0 1 rfl rfl)
theorem dJ26_numberOfTrailingZeros_2 : decode cJ26_numberOfTrailingZeros 2 = .ok (.ixor, 1) := dk_130 (dk_at dksJ26_numberOfTrailingZeros_0 2 rfl rfl)
theorem dJ26_numberOfTrailingZeros_3 : decode cJ26_numberOfTrailingZeros 3 = .ok (.iload_n 0, 1) := dk_26 (dk_at dksJ26_numberOfTrailingZeros_0 3 rfl rfl)
theorem dJ26_numberOfTrailingZeros_4 : decode cJ26_numberOfTrailingZeros 4 = .ok (.iconst 1, 1) := dk_4 (dk_at dksJ26_numberOfTrailingZeros_0 4 rfl rfl)
theorem dJ26_numberOfTrailingZeros_5 : decode cJ26_numberOfTrailingZeros 5 = .ok (.isub, 1) := dk_100 (dk_at dksJ26_numberOfTrailingZeros_0 5 rfl rfl)
theorem dJ26_numberOfTrailingZeros_6 : decode cJ26_numberOfTrailingZeros 6 = .ok (.iand, 1) := dk_126 (dk_at dksJ26_numberOfTrailingZeros_0 6 rfl rfl)
theorem dJ26_numberOfTrailingZeros_7 : decode cJ26_numberOfTrailingZeros 7 = .ok (.istore_n 0, 1) := dk_59 (dk_at dksJ26_numberOfTrailingZeros_0 7 rfl rfl)
theorem dJ26_numberOfTrailingZeros_8 : decode cJ26_numberOfTrailingZeros 8 = .ok (.iload_n 0, 1) := dk_26 (dk_at dksJ26_numberOfTrailingZeros_0 8 rfl rfl)
theorem dJ26_numberOfTrailingZeros_9 : decode cJ26_numberOfTrailingZeros 9 = .ok (.ifCond .gt 8, 3) := dk_157 0 8 (dk_at dksJ26_numberOfTrailingZeros_0 9 rfl rfl)
theorem dJ26_numberOfTrailingZeros_12 : decode cJ26_numberOfTrailingZeros 12 = .ok (.iload_n 0, 1) := dk_26 (dk_at dksJ26_numberOfTrailingZeros_0 12 rfl rfl)
theorem dJ26_numberOfTrailingZeros_13 : decode cJ26_numberOfTrailingZeros 13 = .ok (.bipush 32, 2) := dk_16 32 (dk_at dksJ26_numberOfTrailingZeros_0 13 rfl rfl)
theorem dJ26_numberOfTrailingZeros_15 : decode cJ26_numberOfTrailingZeros 15 = .ok (.iand, 1) := dk_126 (dk_at dksJ26_numberOfTrailingZeros_0 15 rfl rfl)
theorem dJ26_numberOfTrailingZeros_16 : decode cJ26_numberOfTrailingZeros 16 = .ok (.ireturn, 1) := dk_172 (dk_at dksJ26_numberOfTrailingZeros_0 16 rfl rfl)
theorem dJ26_numberOfTrailingZeros_17 : decode cJ26_numberOfTrailingZeros 17 = .ok (.iconst 1, 1) := dk_4 (dk_at dksJ26_numberOfTrailingZeros_0 17 rfl rfl)
theorem dJ26_numberOfTrailingZeros_18 : decode cJ26_numberOfTrailingZeros 18 = .ok (.istore_n 1, 1) := dk_60 (dk_at dksJ26_numberOfTrailingZeros_0 18 rfl rfl)
theorem dJ26_numberOfTrailingZeros_19 : decode cJ26_numberOfTrailingZeros 19 = .ok (.iload_n 0, 1) := dk_26 (dk_at dksJ26_numberOfTrailingZeros_0 19 rfl rfl)
theorem dJ26_numberOfTrailingZeros_20 : decode cJ26_numberOfTrailingZeros 20 = .ok (.ldc_w 264, 3) := dk_19 1 8 (dk_at dksJ26_numberOfTrailingZeros_0 20 rfl rfl)
theorem dJ26_numberOfTrailingZeros_23 : decode cJ26_numberOfTrailingZeros 23 = .ok (.if_icmp .le 11, 3) := dk_164 0 11 (dk_at dksJ26_numberOfTrailingZeros_1 0 rfl rfl)
theorem dJ26_numberOfTrailingZeros_26 : decode cJ26_numberOfTrailingZeros 26 = .ok (.iinc 1 16, 3) := dk_132 1 16 (dk_at dksJ26_numberOfTrailingZeros_1 3 rfl rfl)
theorem dJ26_numberOfTrailingZeros_29 : decode cJ26_numberOfTrailingZeros 29 = .ok (.iload_n 0, 1) := dk_26 (dk_at dksJ26_numberOfTrailingZeros_1 6 rfl rfl)
theorem dJ26_numberOfTrailingZeros_30 : decode cJ26_numberOfTrailingZeros 30 = .ok (.bipush 16, 2) := dk_16 16 (dk_at dksJ26_numberOfTrailingZeros_1 7 rfl rfl)
theorem dJ26_numberOfTrailingZeros_32 : decode cJ26_numberOfTrailingZeros 32 = .ok (.iushr, 1) := dk_124 (dk_at dksJ26_numberOfTrailingZeros_1 9 rfl rfl)
theorem dJ26_numberOfTrailingZeros_33 : decode cJ26_numberOfTrailingZeros 33 = .ok (.istore_n 0, 1) := dk_59 (dk_at dksJ26_numberOfTrailingZeros_1 10 rfl rfl)
theorem dJ26_numberOfTrailingZeros_34 : decode cJ26_numberOfTrailingZeros 34 = .ok (.iload_n 0, 1) := dk_26 (dk_at dksJ26_numberOfTrailingZeros_1 11 rfl rfl)
theorem dJ26_numberOfTrailingZeros_35 : decode cJ26_numberOfTrailingZeros 35 = .ok (.sipush 256, 3) := dk_17 1 0 (dk_at dksJ26_numberOfTrailingZeros_1 12 rfl rfl)
theorem dJ26_numberOfTrailingZeros_38 : decode cJ26_numberOfTrailingZeros 38 = .ok (.if_icmp .le 11, 3) := dk_164 0 11 (dk_at dksJ26_numberOfTrailingZeros_1 15 rfl rfl)
theorem dJ26_numberOfTrailingZeros_41 : decode cJ26_numberOfTrailingZeros 41 = .ok (.iinc 1 8, 3) := dk_132 1 8 (dk_at dksJ26_numberOfTrailingZeros_1 18 rfl rfl)
theorem dJ26_numberOfTrailingZeros_44 : decode cJ26_numberOfTrailingZeros 44 = .ok (.iload_n 0, 1) := dk_26 (dk_at dksJ26_numberOfTrailingZeros_1 21 rfl rfl)
theorem dJ26_numberOfTrailingZeros_45 : decode cJ26_numberOfTrailingZeros 45 = .ok (.bipush 8, 2) := dk_16 8 (dk_at dksJ26_numberOfTrailingZeros_1 22 rfl rfl)
theorem dJ26_numberOfTrailingZeros_47 : decode cJ26_numberOfTrailingZeros 47 = .ok (.iushr, 1) := dk_124 (dk_at dksJ26_numberOfTrailingZeros_2 0 rfl rfl)
theorem dJ26_numberOfTrailingZeros_48 : decode cJ26_numberOfTrailingZeros 48 = .ok (.istore_n 0, 1) := dk_59 (dk_at dksJ26_numberOfTrailingZeros_2 1 rfl rfl)
theorem dJ26_numberOfTrailingZeros_49 : decode cJ26_numberOfTrailingZeros 49 = .ok (.iload_n 0, 1) := dk_26 (dk_at dksJ26_numberOfTrailingZeros_2 2 rfl rfl)
theorem dJ26_numberOfTrailingZeros_50 : decode cJ26_numberOfTrailingZeros 50 = .ok (.bipush 16, 2) := dk_16 16 (dk_at dksJ26_numberOfTrailingZeros_2 3 rfl rfl)
theorem dJ26_numberOfTrailingZeros_52 : decode cJ26_numberOfTrailingZeros 52 = .ok (.if_icmp .le 10, 3) := dk_164 0 10 (dk_at dksJ26_numberOfTrailingZeros_2 5 rfl rfl)
theorem dJ26_numberOfTrailingZeros_55 : decode cJ26_numberOfTrailingZeros 55 = .ok (.iinc 1 4, 3) := dk_132 1 4 (dk_at dksJ26_numberOfTrailingZeros_2 8 rfl rfl)
theorem dJ26_numberOfTrailingZeros_58 : decode cJ26_numberOfTrailingZeros 58 = .ok (.iload_n 0, 1) := dk_26 (dk_at dksJ26_numberOfTrailingZeros_2 11 rfl rfl)
theorem dJ26_numberOfTrailingZeros_59 : decode cJ26_numberOfTrailingZeros 59 = .ok (.iconst 4, 1) := dk_7 (dk_at dksJ26_numberOfTrailingZeros_2 12 rfl rfl)
theorem dJ26_numberOfTrailingZeros_60 : decode cJ26_numberOfTrailingZeros 60 = .ok (.iushr, 1) := dk_124 (dk_at dksJ26_numberOfTrailingZeros_2 13 rfl rfl)
theorem dJ26_numberOfTrailingZeros_61 : decode cJ26_numberOfTrailingZeros 61 = .ok (.istore_n 0, 1) := dk_59 (dk_at dksJ26_numberOfTrailingZeros_2 14 rfl rfl)
theorem dJ26_numberOfTrailingZeros_62 : decode cJ26_numberOfTrailingZeros 62 = .ok (.iload_n 0, 1) := dk_26 (dk_at dksJ26_numberOfTrailingZeros_2 15 rfl rfl)
theorem dJ26_numberOfTrailingZeros_63 : decode cJ26_numberOfTrailingZeros 63 = .ok (.iconst 4, 1) := dk_7 (dk_at dksJ26_numberOfTrailingZeros_2 16 rfl rfl)
theorem dJ26_numberOfTrailingZeros_64 : decode cJ26_numberOfTrailingZeros 64 = .ok (.if_icmp .le 10, 3) := dk_164 0 10 (dk_at dksJ26_numberOfTrailingZeros_2 17 rfl rfl)
theorem dJ26_numberOfTrailingZeros_67 : decode cJ26_numberOfTrailingZeros 67 = .ok (.iinc 1 2, 3) := dk_132 1 2 (dk_at dksJ26_numberOfTrailingZeros_2 20 rfl rfl)
theorem dJ26_numberOfTrailingZeros_70 : decode cJ26_numberOfTrailingZeros 70 = .ok (.iload_n 0, 1) := dk_26 (dk_at dksJ26_numberOfTrailingZeros_2 23 rfl rfl)
theorem dJ26_numberOfTrailingZeros_71 : decode cJ26_numberOfTrailingZeros 71 = .ok (.iconst 2, 1) := dk_5 (dk_at dksJ26_numberOfTrailingZeros_3 0 rfl rfl)
theorem dJ26_numberOfTrailingZeros_72 : decode cJ26_numberOfTrailingZeros 72 = .ok (.iushr, 1) := dk_124 (dk_at dksJ26_numberOfTrailingZeros_3 1 rfl rfl)
theorem dJ26_numberOfTrailingZeros_73 : decode cJ26_numberOfTrailingZeros 73 = .ok (.istore_n 0, 1) := dk_59 (dk_at dksJ26_numberOfTrailingZeros_3 2 rfl rfl)
theorem dJ26_numberOfTrailingZeros_74 : decode cJ26_numberOfTrailingZeros 74 = .ok (.iload_n 1, 1) := dk_27 (dk_at dksJ26_numberOfTrailingZeros_3 3 rfl rfl)
theorem dJ26_numberOfTrailingZeros_75 : decode cJ26_numberOfTrailingZeros 75 = .ok (.iload_n 0, 1) := dk_26 (dk_at dksJ26_numberOfTrailingZeros_3 4 rfl rfl)
theorem dJ26_numberOfTrailingZeros_76 : decode cJ26_numberOfTrailingZeros 76 = .ok (.iconst 1, 1) := dk_4 (dk_at dksJ26_numberOfTrailingZeros_3 5 rfl rfl)
theorem dJ26_numberOfTrailingZeros_77 : decode cJ26_numberOfTrailingZeros 77 = .ok (.iushr, 1) := dk_124 (dk_at dksJ26_numberOfTrailingZeros_3 6 rfl rfl)
theorem dJ26_numberOfTrailingZeros_78 : decode cJ26_numberOfTrailingZeros 78 = .ok (.iadd, 1) := dk_96 (dk_at dksJ26_numberOfTrailingZeros_3 7 rfl rfl)
theorem dJ26_numberOfTrailingZeros_79 : decode cJ26_numberOfTrailingZeros 79 = .ok (.ireturn, 1) := dk_172 (dk_at dksJ26_numberOfTrailingZeros_3 8 rfl rfl)
abbrev cJ26_compare : ByteArray := prog_25_method_40_code
def yJ26_compare : MethodName := ⟨RJ26, "compare", "(II)I"⟩
def dkwJ26_compare_0 : List UInt8 := [26, 27, 162, 0, 7, 2, 167, 0, 13, 26, 27, 160, 0, 7, 3, 167, 0, 4, 4, 172]
abbrev dktJ26_compare_0 : List UInt8 := dkwJ26_compare_0 ++ []
theorem dksJ26_compare_0 : cJ26_compare.data.toList.drop 0 = dktJ26_compare_0 := by decide +kernel
theorem dJ26_compare_0 : decode cJ26_compare 0 = .ok (.iload_n 0, 1) := dk_26 (dk_at dksJ26_compare_0 0 rfl rfl)
theorem dJ26_compare_1 : decode cJ26_compare 1 = .ok (.iload_n 1, 1) := dk_27 (dk_at dksJ26_compare_0 1 rfl rfl)
theorem dJ26_compare_2 : decode cJ26_compare 2 = .ok (.if_icmp .ge 7, 3) := dk_162 0 7 (dk_at dksJ26_compare_0 2 rfl rfl)
theorem dJ26_compare_5 : decode cJ26_compare 5 = .ok (.iconst (-1), 1) := dk_2 (dk_at dksJ26_compare_0 5 rfl rfl)
theorem dJ26_compare_6 : decode cJ26_compare 6 = .ok (.goto 13, 3) := dk_167 0 13 (dk_at dksJ26_compare_0 6 rfl rfl)
theorem dJ26_compare_9 : decode cJ26_compare 9 = .ok (.iload_n 0, 1) := dk_26 (dk_at dksJ26_compare_0 9 rfl rfl)
theorem dJ26_compare_10 : decode cJ26_compare 10 = .ok (.iload_n 1, 1) := dk_27 (dk_at dksJ26_compare_0 10 rfl rfl)
theorem dJ26_compare_11 : decode cJ26_compare 11 = .ok (.if_icmp .ne 7, 3) := dk_160 0 7 (dk_at dksJ26_compare_0 11 rfl rfl)
theorem dJ26_compare_14 : decode cJ26_compare 14 = .ok (.iconst 0, 1) := dk_3 (dk_at dksJ26_compare_0 14 rfl rfl)
theorem dJ26_compare_15 : decode cJ26_compare 15 = .ok (.goto 4, 3) := dk_167 0 4 (dk_at dksJ26_compare_0 15 rfl rfl)
theorem dJ26_compare_18 : decode cJ26_compare 18 = .ok (.iconst 1, 1) := dk_4 (dk_at dksJ26_compare_0 18 rfl rfl)
theorem dJ26_compare_19 : decode cJ26_compare 19 = .ok (.ireturn, 1) := dk_172 (dk_at dksJ26_compare_0 19 rfl rfl)
abbrev cJ26_valueOf : ByteArray := prog_25_method_22_code
def yJ26_valueOf : MethodName := ⟨RJ26, "valueOf", "(I)Ljava/lang/Integer;"⟩
def dkwJ26_valueOf_1 : List UInt8 := [187, 0, 1, 89, 26, 183, 0, 199, 176]
abbrev dktJ26_valueOf_1 : List UInt8 := dkwJ26_valueOf_1 ++ []
def dkwJ26_valueOf_0 : List UInt8 := [26, 16, 128, 161, 0, 20, 26, 178, 0, 191, 163, 0, 13, 178, 0, 195, 26, 17, 0, 128, 96, 50, 176]
abbrev dktJ26_valueOf_0 : List UInt8 := dkwJ26_valueOf_0 ++ dktJ26_valueOf_1
theorem dksJ26_valueOf_0 : cJ26_valueOf.data.toList.drop 0 = dktJ26_valueOf_0 := by decide +kernel
theorem dksJ26_valueOf_1 : cJ26_valueOf.data.toList.drop 23 = dktJ26_valueOf_1 := dk_seg dksJ26_valueOf_0 23 rfl rfl
theorem dJ26_valueOf_0 : decode cJ26_valueOf 0 = .ok (.iload_n 0, 1) := dk_26 (dk_at dksJ26_valueOf_0 0 rfl rfl)
theorem dJ26_valueOf_1 : decode cJ26_valueOf 1 = .ok (.bipush (-128), 2) := dk_16 128 (dk_at dksJ26_valueOf_0 1 rfl rfl)
theorem dJ26_valueOf_3 : decode cJ26_valueOf 3 = .ok (.if_icmp .lt 20, 3) := dk_161 0 20 (dk_at dksJ26_valueOf_0 3 rfl rfl)
theorem dJ26_valueOf_6 : decode cJ26_valueOf 6 = .ok (.iload_n 0, 1) := dk_26 (dk_at dksJ26_valueOf_0 6 rfl rfl)
theorem dJ26_valueOf_7 : decode cJ26_valueOf 7 = .ok (.getstatic 191, 3) := dk_178 0 191 (dk_at dksJ26_valueOf_0 7 rfl rfl)
theorem dJ26_valueOf_10 : decode cJ26_valueOf 10 = .ok (.if_icmp .gt 13, 3) := dk_163 0 13 (dk_at dksJ26_valueOf_0 10 rfl rfl)
theorem dJ26_valueOf_13 : decode cJ26_valueOf 13 = .ok (.getstatic 195, 3) := dk_178 0 195 (dk_at dksJ26_valueOf_0 13 rfl rfl)
theorem dJ26_valueOf_16 : decode cJ26_valueOf 16 = .ok (.iload_n 0, 1) := dk_26 (dk_at dksJ26_valueOf_0 16 rfl rfl)
theorem dJ26_valueOf_17 : decode cJ26_valueOf 17 = .ok (.sipush 128, 3) := dk_17 0 128 (dk_at dksJ26_valueOf_0 17 rfl rfl)
theorem dJ26_valueOf_20 : decode cJ26_valueOf 20 = .ok (.iadd, 1) := dk_96 (dk_at dksJ26_valueOf_0 20 rfl rfl)
theorem dJ26_valueOf_21 : decode cJ26_valueOf 21 = .ok (.aaload, 1) := dk_50 (dk_at dksJ26_valueOf_0 21 rfl rfl)
theorem dJ26_valueOf_22 : decode cJ26_valueOf 22 = .ok (.areturn, 1) := dk_176 (dk_at dksJ26_valueOf_0 22 rfl rfl)
theorem dJ26_valueOf_23 : decode cJ26_valueOf 23 = .ok (.new 1, 3) := dk_187 0 1 (dk_at dksJ26_valueOf_1 0 rfl rfl)
theorem dJ26_valueOf_26 : decode cJ26_valueOf 26 = .ok (.dup, 1) := dk_89 (dk_at dksJ26_valueOf_1 3 rfl rfl)
theorem dJ26_valueOf_27 : decode cJ26_valueOf 27 = .ok (.iload_n 0, 1) := dk_26 (dk_at dksJ26_valueOf_1 4 rfl rfl)
theorem dJ26_valueOf_28 : decode cJ26_valueOf 28 = .ok (.invokespecial 199, 3) := dk_183 0 199 (dk_at dksJ26_valueOf_1 5 rfl rfl)
theorem dJ26_valueOf_31 : decode cJ26_valueOf 31 = .ok (.areturn, 1) := dk_176 (dk_at dksJ26_valueOf_1 8 rfl rfl)
abbrev cJ26_init : ByteArray := prog_25_method_23_code
def yJ26_init : MethodName := ⟨RJ26, "<init>", "(I)V"⟩
def dkwJ26_init_0 : List UInt8 := [42, 183, 0, 202, 42, 27, 181, 0, 205, 177]
abbrev dktJ26_init_0 : List UInt8 := dkwJ26_init_0 ++ []
theorem dksJ26_init_0 : cJ26_init.data.toList.drop 0 = dktJ26_init_0 := by decide +kernel
theorem dJ26_init_0 : decode cJ26_init 0 = .ok (.aload_n 0, 1) := dk_42 (dk_at dksJ26_init_0 0 rfl rfl)
theorem dJ26_init_1 : decode cJ26_init 1 = .ok (.invokespecial 202, 3) := dk_183 0 202 (dk_at dksJ26_init_0 1 rfl rfl)
theorem dJ26_init_4 : decode cJ26_init 4 = .ok (.aload_n 0, 1) := dk_42 (dk_at dksJ26_init_0 4 rfl rfl)
theorem dJ26_init_5 : decode cJ26_init 5 = .ok (.iload_n 1, 1) := dk_27 (dk_at dksJ26_init_0 5 rfl rfl)
theorem dJ26_init_6 : decode cJ26_init 6 = .ok (.putfield 205, 3) := dk_181 0 205 (dk_at dksJ26_init_0 6 rfl rfl)
theorem dJ26_init_9 : decode cJ26_init 9 = .ok (.return_, 1) := dk_177 (dk_at dksJ26_init_0 9 rfl rfl)
theorem q148 : (Jvm.Cond.initialized "java/lang/Integer") ∈ lw_all := lw_g (lw_at lw_m1 33 rfl) rfl
theorem q679 : (Jvm.Cond.selects "java/lang/Integer" ({ cls := "java/lang/Object", name := "getClass", desc := "()Ljava/lang/Class;" } : Jvm.MethodName) ({ cls := "java/lang/Object", name := "getClass", desc := "()Ljava/lang/Class;" } : Jvm.MethodName)) ∈ lw_all := lw_g (lw_at lw_m3 84 rfl) rfl
theorem q930 : (Jvm.Cond.static ({ cls := "java/lang/Integer", name := "stringSize", desc := "(I)I" } : Jvm.MethodName)) ∈ lw_all := lw_g (lw_at lw_m4 95 rfl) rfl
theorem q931 : (Jvm.Cond.code ({ cls := "java/lang/Integer", name := "stringSize", desc := "(I)I" } : Jvm.MethodName) prog_25_method_13_code (4 : Nat) (Option.some Jvm.ClassFile.FieldType.int)) ∈ lw_all := lw_g (lw_at lw_m4 96 rfl) rfl
theorem q933 : (Jvm.Cond.static ({ cls := "java/lang/Integer", name := "getChars", desc := "(II[B)I" } : Jvm.MethodName)) ∈ lw_all := lw_g (lw_at lw_m4 98 rfl) rfl
theorem q934 : (Jvm.Cond.code ({ cls := "java/lang/Integer", name := "getChars", desc := "(II[B)I" } : Jvm.MethodName) prog_25_method_12_code (7 : Nat) (Option.some Jvm.ClassFile.FieldType.int)) ∈ lw_all := lw_g (lw_at lw_m4 99 rfl) rfl
theorem q935 : (Jvm.Cond.fieldLink "java/lang/Integer" (83 : Nat) "java/lang/Integer" "DigitOnes" "[B") ∈ lw_all := lw_g (lw_at lw_m4 100 rfl) rfl
theorem q936 : (Jvm.Cond.laysStatic "java/lang/Integer" "DigitOnes" "[B") ∈ lw_tbl := lw_at lw_m4 101 rfl
theorem q937 : (Jvm.Cond.fieldLink "java/lang/Integer" (87 : Nat) "java/lang/Integer" "DigitTens" "[B") ∈ lw_all := lw_g (lw_at lw_m4 102 rfl) rfl
theorem q938 : (Jvm.Cond.laysStatic "java/lang/Integer" "DigitTens" "[B") ∈ lw_tbl := lw_at lw_m4 103 rfl
theorem q1198 : (Jvm.Cond.selects "java/lang/Integer" ({ cls := "java/lang/Object", name := "equals", desc := "(Ljava/lang/Object;)Z" } : Jvm.MethodName) ({ cls := "java/lang/Integer", name := "equals", desc := "(Ljava/lang/Object;)Z" } : Jvm.MethodName)) ∈ lw_all := lw_g (lw_at lw_m5 123 rfl) rfl
theorem q1199 : (Jvm.Cond.instanceMethod ({ cls := "java/lang/Integer", name := "equals", desc := "(Ljava/lang/Object;)Z" } : Jvm.MethodName)) ∈ lw_all := lw_g (lw_at lw_m5 124 rfl) rfl
theorem q1200 : (Jvm.Cond.code ({ cls := "java/lang/Integer", name := "equals", desc := "(Ljava/lang/Object;)Z" } : Jvm.MethodName) prog_25_method_34_code (2 : Nat) (Option.some Jvm.ClassFile.FieldType.boolean)) ∈ lw_all := lw_g (lw_at lw_m5 125 rfl) rfl
theorem q1201 : (Jvm.Cond.classLink "java/lang/Integer" (1 : Nat) "java/lang/Integer") ∈ lw_all := lw_g (lw_at lw_m5 126 rfl) rfl
theorem q1202 : (Jvm.Cond.methodLink "java/lang/Integer" (211 : Nat) ({ cls := "java/lang/Integer", name := "intValue", desc := "()I" } : Jvm.MethodName)) ∈ lw_all := lw_g (lw_at lw_m5 127 rfl) rfl
theorem q1203 : (Jvm.Cond.instanceMethod ({ cls := "java/lang/Integer", name := "intValue", desc := "()I" } : Jvm.MethodName)) ∈ lw_all := lw_g (lw_at lw_m5 128 rfl) rfl
theorem q1204 : (Jvm.Cond.selects "java/lang/Integer" ({ cls := "java/lang/Integer", name := "intValue", desc := "()I" } : Jvm.MethodName) ({ cls := "java/lang/Integer", name := "intValue", desc := "()I" } : Jvm.MethodName)) ∈ lw_all := lw_g (lw_at lw_m5 129 rfl) rfl
theorem q1205 : (Jvm.Cond.code ({ cls := "java/lang/Integer", name := "intValue", desc := "()I" } : Jvm.MethodName) prog_25_method_27_code (1 : Nat) (Option.some Jvm.ClassFile.FieldType.int)) ∈ lw_all := lw_g (lw_at lw_m5 130 rfl) rfl
theorem q1731 : (Jvm.Cond.static ({ cls := "java/lang/Integer", name := "numberOfTrailingZeros", desc := "(I)I" } : Jvm.MethodName)) ∈ lw_all := lw_g (lw_at lw_m7 176 rfl) rfl
theorem q1732 : (Jvm.Cond.code ({ cls := "java/lang/Integer", name := "numberOfTrailingZeros", desc := "(I)I" } : Jvm.MethodName) prog_25_method_48_code (2 : Nat) (Option.some Jvm.ClassFile.FieldType.int)) ∈ lw_all := lw_g (lw_at lw_m7 177 rfl) rfl
theorem q1733 : (Jvm.Cond.constant "java/lang/Integer" (264 : Nat) (65536 : Int32)) ∈ lw_all := lw_g (lw_at lw_m7 178 rfl) rfl
theorem q1809 : (Jvm.Cond.static ({ cls := "java/lang/Integer", name := "compare", desc := "(II)I" } : Jvm.MethodName)) ∈ lw_all := lw_g (lw_at lw_m8 14 rfl) rfl
theorem q1810 : (Jvm.Cond.code ({ cls := "java/lang/Integer", name := "compare", desc := "(II)I" } : Jvm.MethodName) prog_25_method_40_code (2 : Nat) (Option.some Jvm.ClassFile.FieldType.int)) ∈ lw_all := lw_g (lw_at lw_m8 15 rfl) rfl
theorem q2037 : (Jvm.Cond.static ({ cls := "java/lang/Integer", name := "valueOf", desc := "(I)Ljava/lang/Integer;" } : Jvm.MethodName)) ∈ lw_all := lw_g (lw_at lw_m9 2 rfl) rfl
theorem q2038 : (Jvm.Cond.code ({ cls := "java/lang/Integer", name := "valueOf", desc := "(I)Ljava/lang/Integer;" } : Jvm.MethodName) prog_25_method_22_code (1 : Nat) (Option.some (Jvm.ClassFile.FieldType.object "java/lang/Integer"))) ∈ lw_all := lw_g (lw_at lw_m9 3 rfl) rfl
theorem q2039 : (Jvm.Cond.fieldLink "java/lang/Integer" (191 : Nat) "java/lang/Integer$IntegerCache" "high" "I") ∈ lw_all := lw_g (lw_at lw_m9 4 rfl) rfl
theorem q2041 : (Jvm.Cond.fieldLink "java/lang/Integer" (195 : Nat) "java/lang/Integer$IntegerCache" "cache" "[Ljava/lang/Integer;") ∈ lw_all := lw_g (lw_at lw_m9 6 rfl) rfl
theorem q2043 : (Jvm.Cond.instantiable "java/lang/Integer" (1 : Nat)) ∈ lw_all := lw_g (lw_at lw_m9 8 rfl) rfl
theorem q2044 : (Jvm.Cond.methodLink "java/lang/Integer" (199 : Nat) ({ cls := "java/lang/Integer", name := "<init>", desc := "(I)V" } : Jvm.MethodName)) ∈ lw_all := lw_g (lw_at lw_m9 9 rfl) rfl
theorem q2045 : (Jvm.Cond.instanceMethod ({ cls := "java/lang/Integer", name := "<init>", desc := "(I)V" } : Jvm.MethodName)) ∈ lw_all := lw_g (lw_at lw_m9 10 rfl) rfl
theorem q2046 : (Jvm.Cond.code ({ cls := "java/lang/Integer", name := "<init>", desc := "(I)V" } : Jvm.MethodName) prog_25_method_23_code (2 : Nat) (Option.none : Option Jvm.ClassFile.FieldType)) ∈ lw_all := lw_g (lw_at lw_m9 11 rfl) rfl
theorem q2047 : (Jvm.Cond.methodLink "java/lang/Integer" (202 : Nat) ({ cls := "java/lang/Number", name := "<init>", desc := "()V" } : Jvm.MethodName)) ∈ lw_all := lw_g (lw_at lw_m9 12 rfl) rfl
theorem q2051 : (Jvm.Cond.fieldLink "java/lang/Integer" (205 : Nat) "java/lang/Integer" "value" "I") ∈ lw_all := lw_g (lw_at lw_m9 16 rfl) rfl
theorem q2052 : (Jvm.Cond.laysFinal "java/lang/Integer" "java/lang/Integer" "value" "I") ∈ lw_all := lw_g (lw_at lw_m9 17 rfl) rfl
theorem q2053 : (Jvm.Cond.soleField "java/lang/Integer" "value") ∈ lw_all := lw_g (lw_at lw_m9 18 rfl) rfl
theorem q2054 : (Jvm.Cond.superclass "java/lang/Integer" "java/lang/Number") ∈ lw_all := lw_g (lw_at lw_m9 19 rfl) rfl
theorem q2880 : (Jvm.Cond.castable "java/lang/Integer" "java/lang/Object") ∈ lw_tbl := lw_at lw_m12 125 rfl
theorem in_J26 : ∀ w ∈ wsJ260, w ∈ lw_all := lw_in wsJ260 [2052] (by decide +kernel) (by decide +kernel)
/-! java/lang/IndexOutOfBoundsException -/
set_option maxRecDepth 100000
def RJ27 : String := "java/lang/IndexOutOfBoundsException"
def TJ27 : u_T := fun k => match k with
  | 0 => ("java/lang/Throwable", "cause", "Ljava/lang/Throwable;", false)
  | 1 => ("java/lang/Throwable", "stackTrace", "[Ljava/lang/StackTraceElement;", false)
  | 2 => ("java/lang/Throwable", "suppressedExceptions", "Ljava/util/List;", false)
  | 3 => ("java/lang/Throwable", "detailMessage", "Ljava/lang/String;", false)
  | 4 => ("java/lang/Throwable", "backtrace", "Ljava/lang/Object;", false)
  | _ => ("java/lang/Throwable", "depth", "I", false)
def tyJ27 : Nat → FieldType := fun k => match k with
  | 0 => .object "java/lang/Throwable"
  | 1 => .array (.object "java/lang/StackTraceElement")
  | 2 => .object "java/util/List"
  | 3 => .object "java/lang/String"
  | 4 => .object "java/lang/Object"
  | _ => .int
abbrev wsJ270 : List Cond := u_ws RJ27 TJ27 6
theorem nmJ27 : ∀ a, a < 6 → ∀ b, b < 6 → a ≠ b → (TJ27 a).2.1 ≠ (TJ27 b).2.1 := by decide +kernel
theorem tyJ27_ok : ∀ k, k < 6 → parseFieldDescriptor (TJ27 k).2.2.1 = some (tyJ27 k) := by decide +kernel
abbrev cJ27_init : ByteArray := prog_24_method_2_code
def yJ27_init : MethodName := ⟨RJ27, "<init>", "(Ljava/lang/String;)V"⟩
def dkwJ27_init_0 : List UInt8 := [42, 43, 183, 0, 7, 177]
abbrev dktJ27_init_0 : List UInt8 := dkwJ27_init_0 ++ []
theorem dksJ27_init_0 : cJ27_init.data.toList.drop 0 = dktJ27_init_0 := by decide +kernel
theorem dJ27_init_0 : decode cJ27_init 0 = .ok (.aload_n 0, 1) := dk_42 (dk_at dksJ27_init_0 0 rfl rfl)
theorem dJ27_init_1 : decode cJ27_init 1 = .ok (.aload_n 1, 1) := dk_43 (dk_at dksJ27_init_0 1 rfl rfl)
theorem dJ27_init_2 : decode cJ27_init 2 = .ok (.invokespecial 7, 3) := dk_183 0 7 (dk_at dksJ27_init_0 2 rfl rfl)
theorem dJ27_init_5 : decode cJ27_init 5 = .ok (.return_, 1) := dk_177 (dk_at dksJ27_init_0 5 rfl rfl)
abbrev cJ27_init_2 : ByteArray := prog_24_method_1_code
def yJ27_init_2 : MethodName := ⟨RJ27, "<init>", "()V"⟩
theorem dJ27_init_2_0 : decode cJ27_init_2 0 = .ok (.aload_n 0, 1) := by decide +kernel
theorem dJ27_init_2_1 : decode cJ27_init_2 1 = .ok (.invokespecial 1, 3) := by decide +kernel
theorem dJ27_init_2_4 : decode cJ27_init_2 4 = .ok (.return_, 1) := by decide +kernel
theorem q153 : (Jvm.Cond.initialized "java/lang/IndexOutOfBoundsException") ∈ lw_all := lw_g (lw_at lw_m1 38 rfl) rfl
theorem q385 : (Jvm.Cond.selects "java/lang/IndexOutOfBoundsException" ({ cls := "java/lang/Throwable", name := "fillInStackTrace", desc := "()Ljava/lang/Throwable;" } : Jvm.MethodName) ({ cls := "java/lang/Throwable", name := "fillInStackTrace", desc := "()Ljava/lang/Throwable;" } : Jvm.MethodName)) ∈ lw_all := lw_g (lw_at lw_m2 30 rfl) rfl
theorem q678 : (Jvm.Cond.selects "java/lang/IndexOutOfBoundsException" ({ cls := "java/lang/Object", name := "getClass", desc := "()Ljava/lang/Class;" } : Jvm.MethodName) ({ cls := "java/lang/Object", name := "getClass", desc := "()Ljava/lang/Class;" } : Jvm.MethodName)) ∈ lw_all := lw_g (lw_at lw_m3 83 rfl) rfl
theorem q1197 : (Jvm.Cond.selects "java/lang/IndexOutOfBoundsException" ({ cls := "java/lang/Object", name := "equals", desc := "(Ljava/lang/Object;)Z" } : Jvm.MethodName) ({ cls := "java/lang/Object", name := "equals", desc := "(Ljava/lang/Object;)Z" } : Jvm.MethodName)) ∈ lw_all := lw_g (lw_at lw_m5 122 rfl) rfl
theorem q1262 : (Jvm.Cond.instantiable "java/lang/IndexOutOfBoundsException" (6 : Nat)) ∈ lw_all := lw_g (lw_at lw_m5 187 rfl) rfl
theorem q1263 : (Jvm.Cond.castable "java/lang/IndexOutOfBoundsException" "java/lang/IndexOutOfBoundsException") ∈ lw_tbl := lw_at lw_m5 188 rfl
theorem q1264 : (Jvm.Cond.selects "java/lang/IndexOutOfBoundsException" ({ cls := "java/lang/Throwable", name := "fillInStackTrace", desc := "(I)Ljava/lang/Throwable;" } : Jvm.MethodName) ({ cls := "java/lang/Throwable", name := "fillInStackTrace", desc := "(I)Ljava/lang/Throwable;" } : Jvm.MethodName)) ∈ lw_all := lw_g (lw_at lw_m5 189 rfl) rfl
theorem q1265 : (Jvm.Cond.lays "java/lang/IndexOutOfBoundsException" "java/lang/Throwable" "cause" "Ljava/lang/Throwable;") ∈ lw_all := lw_g (lw_at lw_m5 190 rfl) rfl
theorem q1266 : (Jvm.Cond.lays "java/lang/IndexOutOfBoundsException" "java/lang/Throwable" "stackTrace" "[Ljava/lang/StackTraceElement;") ∈ lw_all := lw_g (lw_at lw_m5 191 rfl) rfl
theorem q1267 : (Jvm.Cond.lays "java/lang/IndexOutOfBoundsException" "java/lang/Throwable" "suppressedExceptions" "Ljava/util/List;") ∈ lw_all := lw_g (lw_at lw_m5 192 rfl) rfl
theorem q1268 : (Jvm.Cond.lays "java/lang/IndexOutOfBoundsException" "java/lang/Throwable" "detailMessage" "Ljava/lang/String;") ∈ lw_all := lw_g (lw_at lw_m5 193 rfl) rfl
theorem q1269 : (Jvm.Cond.lays "java/lang/IndexOutOfBoundsException" "java/lang/Throwable" "backtrace" "Ljava/lang/Object;") ∈ lw_all := lw_g (lw_at lw_m5 194 rfl) rfl
theorem q1282 : (Jvm.Cond.instanceMethod ({ cls := "java/lang/IndexOutOfBoundsException", name := "<init>", desc := "(Ljava/lang/String;)V" } : Jvm.MethodName)) ∈ lw_all := lw_g (lw_at lw_m5 207 rfl) rfl
theorem q1283 : (Jvm.Cond.code ({ cls := "java/lang/IndexOutOfBoundsException", name := "<init>", desc := "(Ljava/lang/String;)V" } : Jvm.MethodName) prog_24_method_2_code (2 : Nat) (Option.none : Option Jvm.ClassFile.FieldType)) ∈ lw_all := lw_g (lw_at lw_m5 208 rfl) rfl
theorem q1284 : (Jvm.Cond.methodLink "java/lang/IndexOutOfBoundsException" (7 : Nat) ({ cls := "java/lang/RuntimeException", name := "<init>", desc := "(Ljava/lang/String;)V" } : Jvm.MethodName)) ∈ lw_all := lw_g (lw_at lw_m5 209 rfl) rfl
theorem q1285 : (Jvm.Cond.lays "java/lang/IndexOutOfBoundsException" "java/lang/Throwable" "depth" "I") ∈ lw_all := lw_g (lw_at lw_m5 210 rfl) rfl
theorem q1286 : (Jvm.Cond.superclass "java/lang/IndexOutOfBoundsException" "java/lang/RuntimeException") ∈ lw_all := lw_g (lw_at lw_m5 211 rfl) rfl
theorem q1383 : (Jvm.Cond.selects "java/lang/IndexOutOfBoundsException" ({ cls := "java/lang/Throwable", name := "toString", desc := "()Ljava/lang/String;" } : Jvm.MethodName) ({ cls := "java/lang/Throwable", name := "toString", desc := "()Ljava/lang/String;" } : Jvm.MethodName)) ∈ lw_all := lw_g (lw_at lw_m6 68 rfl) rfl
theorem q1395 : (Jvm.Cond.selects "java/lang/IndexOutOfBoundsException" ({ cls := "java/lang/Throwable", name := "getLocalizedMessage", desc := "()Ljava/lang/String;" } : Jvm.MethodName) ({ cls := "java/lang/Throwable", name := "getLocalizedMessage", desc := "()Ljava/lang/String;" } : Jvm.MethodName)) ∈ lw_all := lw_g (lw_at lw_m6 80 rfl) rfl
theorem q1406 : (Jvm.Cond.selects "java/lang/IndexOutOfBoundsException" ({ cls := "java/lang/Throwable", name := "getMessage", desc := "()Ljava/lang/String;" } : Jvm.MethodName) ({ cls := "java/lang/Throwable", name := "getMessage", desc := "()Ljava/lang/String;" } : Jvm.MethodName)) ∈ lw_all := lw_g (lw_at lw_m6 91 rfl) rfl
theorem q1844 : (Jvm.Cond.declares ({ cls := "java/lang/IndexOutOfBoundsException", name := "<init>", desc := "()V" } : Jvm.MethodName)) ∈ lw_tbl := lw_at lw_m8 49 rfl
theorem q1845 : (Jvm.Cond.declares ({ cls := "java/lang/IndexOutOfBoundsException", name := "<init>", desc := "(Ljava/lang/String;)V" } : Jvm.MethodName)) ∈ lw_tbl := lw_at lw_m8 50 rfl
theorem q1860 : (Jvm.Cond.instanceMethod ({ cls := "java/lang/IndexOutOfBoundsException", name := "<init>", desc := "()V" } : Jvm.MethodName)) ∈ lw_all := lw_g (lw_at lw_m8 65 rfl) rfl
theorem q1861 : (Jvm.Cond.code ({ cls := "java/lang/IndexOutOfBoundsException", name := "<init>", desc := "()V" } : Jvm.MethodName) prog_24_method_1_code (1 : Nat) (Option.none : Option Jvm.ClassFile.FieldType)) ∈ lw_all := lw_g (lw_at lw_m8 66 rfl) rfl
theorem q1862 : (Jvm.Cond.methodLink "java/lang/IndexOutOfBoundsException" (1 : Nat) ({ cls := "java/lang/RuntimeException", name := "<init>", desc := "()V" } : Jvm.MethodName)) ∈ lw_all := lw_g (lw_at lw_m8 67 rfl) rfl
theorem q2869 : (Jvm.Cond.castable "java/lang/IndexOutOfBoundsException" "java/lang/Object") ∈ lw_tbl := lw_at lw_m12 114 rfl
theorem in_J27 : ∀ w ∈ wsJ270, w ∈ lw_all := lw_in wsJ270 [1265, 1266, 1267, 1268, 1269, 1285] (by decide +kernel) (by decide +kernel)
/-! java/util/AbstractList$Itr -/
set_option maxRecDepth 100000
def RJ28 : String := "java/util/AbstractList$Itr"
abbrev cJ28_hasNext : ByteArray := prog_43_method_2_code
def yJ28_hasNext : MethodName := ⟨RJ28, "hasNext", "()Z"⟩
def dkwJ28_hasNext_0 : List UInt8 := [42, 180, 0, 13, 42, 180, 0, 1, 182, 0, 28, 159, 0, 7, 4, 167, 0, 4, 3, 172]
abbrev dktJ28_hasNext_0 : List UInt8 := dkwJ28_hasNext_0 ++ []
theorem dksJ28_hasNext_0 : cJ28_hasNext.data.toList.drop 0 = dktJ28_hasNext_0 := by decide +kernel
theorem dJ28_hasNext_0 : decode cJ28_hasNext 0 = .ok (.aload_n 0, 1) := dk_42 (dk_at dksJ28_hasNext_0 0 rfl rfl)
theorem dJ28_hasNext_1 : decode cJ28_hasNext 1 = .ok (.getfield 13, 3) := dk_180 0 13 (dk_at dksJ28_hasNext_0 1 rfl rfl)
theorem dJ28_hasNext_4 : decode cJ28_hasNext 4 = .ok (.aload_n 0, 1) := dk_42 (dk_at dksJ28_hasNext_0 4 rfl rfl)
theorem dJ28_hasNext_5 : decode cJ28_hasNext 5 = .ok (.getfield 1, 3) := dk_180 0 1 (dk_at dksJ28_hasNext_0 5 rfl rfl)
theorem dJ28_hasNext_8 : decode cJ28_hasNext 8 = .ok (.invokevirtual 28, 3) := dk_182 0 28 (dk_at dksJ28_hasNext_0 8 rfl rfl)
theorem dJ28_hasNext_11 : decode cJ28_hasNext 11 = .ok (.if_icmp .eq 7, 3) := dk_159 0 7 (dk_at dksJ28_hasNext_0 11 rfl rfl)
theorem dJ28_hasNext_14 : decode cJ28_hasNext 14 = .ok (.iconst 1, 1) := dk_4 (dk_at dksJ28_hasNext_0 14 rfl rfl)
theorem dJ28_hasNext_15 : decode cJ28_hasNext 15 = .ok (.goto 4, 3) := dk_167 0 4 (dk_at dksJ28_hasNext_0 15 rfl rfl)
theorem dJ28_hasNext_18 : decode cJ28_hasNext 18 = .ok (.iconst 0, 1) := dk_3 (dk_at dksJ28_hasNext_0 18 rfl rfl)
theorem dJ28_hasNext_19 : decode cJ28_hasNext 19 = .ok (.ireturn, 1) := dk_172 (dk_at dksJ28_hasNext_0 19 rfl rfl)
abbrev cJ28_next : ByteArray := prog_43_method_3_code
def yJ28_next : MethodName := ⟨RJ28, "next", "()Ljava/lang/Object;"⟩
def dkwJ28_next_1 : List UInt8 := [27, 4, 96, 181, 0, 13, 44, 176, 76, 42, 182, 0, 32, 187, 0, 41, 89, 43, 183, 0, 43, 191]
abbrev dktJ28_next_1 : List UInt8 := dkwJ28_next_1 ++ []
def dkwJ28_next_0 : List UInt8 := [42, 182, 0, 32, 42, 180, 0, 13, 60, 42, 180, 0, 1, 27, 182, 0, 35, 77, 42, 27, 181, 0, 17, 42]
abbrev dktJ28_next_0 : List UInt8 := dkwJ28_next_0 ++ dktJ28_next_1
theorem dksJ28_next_0 : cJ28_next.data.toList.drop 0 = dktJ28_next_0 := by decide +kernel
theorem dksJ28_next_1 : cJ28_next.data.toList.drop 24 = dktJ28_next_1 := dk_seg dksJ28_next_0 24 rfl rfl
theorem dJ28_next_0 : decode cJ28_next 0 = .ok (.aload_n 0, 1) := dk_42 (dk_at dksJ28_next_0 0 rfl rfl)
theorem dJ28_next_1 : decode cJ28_next 1 = .ok (.invokevirtual 32, 3) := dk_182 0 32 (dk_at dksJ28_next_0 1 rfl rfl)
theorem dJ28_next_4 : decode cJ28_next 4 = .ok (.aload_n 0, 1) := dk_42 (dk_at dksJ28_next_0 4 rfl rfl)
theorem dJ28_next_5 : decode cJ28_next 5 = .ok (.getfield 13, 3) := dk_180 0 13 (dk_at dksJ28_next_0 5 rfl rfl)
theorem dJ28_next_8 : decode cJ28_next 8 = .ok (.istore_n 1, 1) := dk_60 (dk_at dksJ28_next_0 8 rfl rfl)
theorem dJ28_next_9 : decode cJ28_next 9 = .ok (.aload_n 0, 1) := dk_42 (dk_at dksJ28_next_0 9 rfl rfl)
theorem dJ28_next_10 : decode cJ28_next 10 = .ok (.getfield 1, 3) := dk_180 0 1 (dk_at dksJ28_next_0 10 rfl rfl)
theorem dJ28_next_13 : decode cJ28_next 13 = .ok (.iload_n 1, 1) := dk_27 (dk_at dksJ28_next_0 13 rfl rfl)
theorem dJ28_next_14 : decode cJ28_next 14 = .ok (.invokevirtual 35, 3) := dk_182 0 35 (dk_at dksJ28_next_0 14 rfl rfl)
theorem dJ28_next_17 : decode cJ28_next 17 = .ok (.astore_n 2, 1) := dk_77 (dk_at dksJ28_next_0 17 rfl rfl)
theorem dJ28_next_18 : decode cJ28_next 18 = .ok (.aload_n 0, 1) := dk_42 (dk_at dksJ28_next_0 18 rfl rfl)
theorem dJ28_next_19 : decode cJ28_next 19 = .ok (.iload_n 1, 1) := dk_27 (dk_at dksJ28_next_0 19 rfl rfl)
theorem dJ28_next_20 : decode cJ28_next 20 = .ok (.putfield 17, 3) := dk_181 0 17 (dk_at dksJ28_next_0 20 rfl rfl)
theorem dJ28_next_23 : decode cJ28_next 23 = .ok (.aload_n 0, 1) := dk_42 (dk_at dksJ28_next_0 23 rfl rfl)
theorem dJ28_next_24 : decode cJ28_next 24 = .ok (.iload_n 1, 1) := dk_27 (dk_at dksJ28_next_1 0 rfl rfl)
theorem dJ28_next_25 : decode cJ28_next 25 = .ok (.iconst 1, 1) := dk_4 (dk_at dksJ28_next_1 1 rfl rfl)
theorem dJ28_next_26 : decode cJ28_next 26 = .ok (.iadd, 1) := dk_96 (dk_at dksJ28_next_1 2 rfl rfl)
theorem dJ28_next_27 : decode cJ28_next 27 = .ok (.putfield 13, 3) := dk_181 0 13 (dk_at dksJ28_next_1 3 rfl rfl)
theorem dJ28_next_30 : decode cJ28_next 30 = .ok (.aload_n 2, 1) := dk_44 (dk_at dksJ28_next_1 6 rfl rfl)
theorem dJ28_next_31 : decode cJ28_next 31 = .ok (.areturn, 1) := dk_176 (dk_at dksJ28_next_1 7 rfl rfl)
theorem dJ28_next_32 : decode cJ28_next 32 = .ok (.astore_n 1, 1) := dk_76 (dk_at dksJ28_next_1 8 rfl rfl)
theorem dJ28_next_33 : decode cJ28_next 33 = .ok (.aload_n 0, 1) := dk_42 (dk_at dksJ28_next_1 9 rfl rfl)
theorem dJ28_next_34 : decode cJ28_next 34 = .ok (.invokevirtual 32, 3) := dk_182 0 32 (dk_at dksJ28_next_1 10 rfl rfl)
theorem dJ28_next_37 : decode cJ28_next 37 = .ok (.new 41, 3) := dk_187 0 41 (dk_at dksJ28_next_1 13 rfl rfl)
theorem dJ28_next_40 : decode cJ28_next 40 = .ok (.dup, 1) := dk_89 (dk_at dksJ28_next_1 16 rfl rfl)
theorem dJ28_next_41 : decode cJ28_next 41 = .ok (.aload_n 1, 1) := dk_43 (dk_at dksJ28_next_1 17 rfl rfl)
theorem dJ28_next_42 : decode cJ28_next 42 = .ok (.invokespecial 43, 3) := dk_183 0 43 (dk_at dksJ28_next_1 18 rfl rfl)
theorem dJ28_next_45 : decode cJ28_next 45 = .ok (.athrow, 1) := dk_191 (dk_at dksJ28_next_1 21 rfl rfl)
abbrev cJ28_checkForComodification : ByteArray := prog_43_method_5_code
def yJ28_checkForComodification : MethodName := ⟨RJ28, "checkForComodification", "()V"⟩
def dkwJ28_checkForComodification_0 : List UInt8 := [42, 180, 0, 1, 180, 0, 20, 42, 180, 0, 25, 159, 0, 11, 187, 0, 52, 89, 183, 0, 54, 191, 177]
abbrev dktJ28_checkForComodification_0 : List UInt8 := dkwJ28_checkForComodification_0 ++ []
theorem dksJ28_checkForComodification_0 : cJ28_checkForComodification.data.toList.drop 0 = dktJ28_checkForComodification_0 := by decide +kernel
theorem dJ28_checkForComodification_0 : decode cJ28_checkForComodification 0 = .ok (.aload_n 0, 1) := dk_42 (dk_at dksJ28_checkForComodification_0 0 rfl rfl)
theorem dJ28_checkForComodification_1 : decode cJ28_checkForComodification 1 = .ok (.getfield 1, 3) := dk_180 0 1 (dk_at dksJ28_checkForComodification_0 1 rfl rfl)
theorem dJ28_checkForComodification_4 : decode cJ28_checkForComodification 4 = .ok (.getfield 20, 3) := dk_180 0 20 (dk_at dksJ28_checkForComodification_0 4 rfl rfl)
theorem dJ28_checkForComodification_7 : decode cJ28_checkForComodification 7 = .ok (.aload_n 0, 1) := dk_42 (dk_at dksJ28_checkForComodification_0 7 rfl rfl)
theorem dJ28_checkForComodification_8 : decode cJ28_checkForComodification 8 = .ok (.getfield 25, 3) := dk_180 0 25 (dk_at dksJ28_checkForComodification_0 8 rfl rfl)
theorem dJ28_checkForComodification_11 : decode cJ28_checkForComodification 11 = .ok (.if_icmp .eq 11, 3) := dk_159 0 11 (dk_at dksJ28_checkForComodification_0 11 rfl rfl)
theorem dJ28_checkForComodification_14 : decode cJ28_checkForComodification 14 = .ok (.new 52, 3) := dk_187 0 52 (dk_at dksJ28_checkForComodification_0 14 rfl rfl)
theorem dJ28_checkForComodification_17 : decode cJ28_checkForComodification 17 = .ok (.dup, 1) := dk_89 (dk_at dksJ28_checkForComodification_0 17 rfl rfl)
theorem dJ28_checkForComodification_18 : decode cJ28_checkForComodification 18 = .ok (.invokespecial 54, 3) := dk_183 0 54 (dk_at dksJ28_checkForComodification_0 18 rfl rfl)
theorem dJ28_checkForComodification_21 : decode cJ28_checkForComodification 21 = .ok (.athrow, 1) := dk_191 (dk_at dksJ28_checkForComodification_0 21 rfl rfl)
theorem dJ28_checkForComodification_22 : decode cJ28_checkForComodification 22 = .ok (.return_, 1) := dk_177 (dk_at dksJ28_checkForComodification_0 22 rfl rfl)
abbrev cJ28_remove : ByteArray := prog_43_method_4_code
def yJ28_remove : MethodName := ⟨RJ28, "remove", "()V"⟩
def dkwJ28_remove_3 : List UInt8 := [187, 0, 52, 89, 183, 0, 54, 191, 177]
abbrev dktJ28_remove_3 : List UInt8 := dkwJ28_remove_3 ++ []
def dkwJ28_remove_2 : List UInt8 := [100, 181, 0, 13, 42, 2, 181, 0, 17, 42, 42, 180, 0, 1, 180, 0, 20, 181, 0, 25, 167, 0, 12, 76]
abbrev dktJ28_remove_2 : List UInt8 := dkwJ28_remove_2 ++ dktJ28_remove_3
def dkwJ28_remove_1 : List UInt8 := [180, 0, 17, 182, 0, 49, 87, 42, 180, 0, 17, 42, 180, 0, 13, 162, 0, 13, 42, 89, 180, 0, 13, 4]
abbrev dktJ28_remove_1 : List UInt8 := dkwJ28_remove_1 ++ dktJ28_remove_2
def dkwJ28_remove_0 : List UInt8 := [42, 180, 0, 17, 156, 0, 11, 187, 0, 46, 89, 183, 0, 48, 191, 42, 182, 0, 32, 42, 180, 0, 1, 42]
abbrev dktJ28_remove_0 : List UInt8 := dkwJ28_remove_0 ++ dktJ28_remove_1
theorem dksJ28_remove_0 : cJ28_remove.data.toList.drop 0 = dktJ28_remove_0 := by decide +kernel
theorem dksJ28_remove_1 : cJ28_remove.data.toList.drop 24 = dktJ28_remove_1 := dk_seg dksJ28_remove_0 24 rfl rfl
theorem dksJ28_remove_2 : cJ28_remove.data.toList.drop 48 = dktJ28_remove_2 := dk_seg dksJ28_remove_1 24 rfl rfl
theorem dksJ28_remove_3 : cJ28_remove.data.toList.drop 72 = dktJ28_remove_3 := dk_seg dksJ28_remove_2 24 rfl rfl
theorem dJ28_remove_0 : decode cJ28_remove 0 = .ok (.aload_n 0, 1) := dk_42 (dk_at dksJ28_remove_0 0 rfl rfl)
theorem dJ28_remove_1 : decode cJ28_remove 1 = .ok (.getfield 17, 3) := dk_180 0 17 (dk_at dksJ28_remove_0 1 rfl rfl)
theorem dJ28_remove_4 : decode cJ28_remove 4 = .ok (.ifCond .ge 11, 3) := dk_156 0 11 (dk_at dksJ28_remove_0 4 rfl rfl)
theorem dJ28_remove_7 : decode cJ28_remove 7 = .ok (.new 46, 3) := dk_187 0 46 (dk_at dksJ28_remove_0 7 rfl rfl)
theorem dJ28_remove_10 : decode cJ28_remove 10 = .ok (.dup, 1) := dk_89 (dk_at dksJ28_remove_0 10 rfl rfl)
theorem dJ28_remove_11 : decode cJ28_remove 11 = .ok (.invokespecial 48, 3) := dk_183 0 48 (dk_at dksJ28_remove_0 11 rfl rfl)
theorem dJ28_remove_14 : decode cJ28_remove 14 = .ok (.athrow, 1) := dk_191 (dk_at dksJ28_remove_0 14 rfl rfl)
theorem dJ28_remove_15 : decode cJ28_remove 15 = .ok (.aload_n 0, 1) := dk_42 (dk_at dksJ28_remove_0 15 rfl rfl)
theorem dJ28_remove_16 : decode cJ28_remove 16 = .ok (.invokevirtual 32, 3) := dk_182 0 32 (dk_at dksJ28_remove_0 16 rfl rfl)
theorem dJ28_remove_19 : decode cJ28_remove 19 = .ok (.aload_n 0, 1) := dk_42 (dk_at dksJ28_remove_0 19 rfl rfl)
theorem dJ28_remove_20 : decode cJ28_remove 20 = .ok (.getfield 1, 3) := dk_180 0 1 (dk_at dksJ28_remove_0 20 rfl rfl)
theorem dJ28_remove_23 : decode cJ28_remove 23 = .ok (.aload_n 0, 1) := dk_42 (dk_at dksJ28_remove_0 23 rfl rfl)
theorem dJ28_remove_24 : decode cJ28_remove 24 = .ok (.getfield 17, 3) := dk_180 0 17 (dk_at dksJ28_remove_1 0 rfl rfl)
theorem dJ28_remove_27 : decode cJ28_remove 27 = .ok (.invokevirtual 49, 3) := dk_182 0 49 (dk_at dksJ28_remove_1 3 rfl rfl)
theorem dJ28_remove_30 : decode cJ28_remove 30 = .ok (.pop, 1) := dk_87 (dk_at dksJ28_remove_1 6 rfl rfl)
theorem dJ28_remove_31 : decode cJ28_remove 31 = .ok (.aload_n 0, 1) := dk_42 (dk_at dksJ28_remove_1 7 rfl rfl)
theorem dJ28_remove_32 : decode cJ28_remove 32 = .ok (.getfield 17, 3) := dk_180 0 17 (dk_at dksJ28_remove_1 8 rfl rfl)
theorem dJ28_remove_35 : decode cJ28_remove 35 = .ok (.aload_n 0, 1) := dk_42 (dk_at dksJ28_remove_1 11 rfl rfl)
theorem dJ28_remove_36 : decode cJ28_remove 36 = .ok (.getfield 13, 3) := dk_180 0 13 (dk_at dksJ28_remove_1 12 rfl rfl)
theorem dJ28_remove_39 : decode cJ28_remove 39 = .ok (.if_icmp .ge 13, 3) := dk_162 0 13 (dk_at dksJ28_remove_1 15 rfl rfl)
theorem dJ28_remove_42 : decode cJ28_remove 42 = .ok (.aload_n 0, 1) := dk_42 (dk_at dksJ28_remove_1 18 rfl rfl)
theorem dJ28_remove_43 : decode cJ28_remove 43 = .ok (.dup, 1) := dk_89 (dk_at dksJ28_remove_1 19 rfl rfl)
theorem dJ28_remove_44 : decode cJ28_remove 44 = .ok (.getfield 13, 3) := dk_180 0 13 (dk_at dksJ28_remove_1 20 rfl rfl)
theorem dJ28_remove_47 : decode cJ28_remove 47 = .ok (.iconst 1, 1) := dk_4 (dk_at dksJ28_remove_1 23 rfl rfl)
theorem dJ28_remove_48 : decode cJ28_remove 48 = .ok (.isub, 1) := dk_100 (dk_at dksJ28_remove_2 0 rfl rfl)
theorem dJ28_remove_49 : decode cJ28_remove 49 = .ok (.putfield 13, 3) := dk_181 0 13 (dk_at dksJ28_remove_2 1 rfl rfl)
theorem dJ28_remove_52 : decode cJ28_remove 52 = .ok (.aload_n 0, 1) := dk_42 (dk_at dksJ28_remove_2 4 rfl rfl)
theorem dJ28_remove_53 : decode cJ28_remove 53 = .ok (.iconst (-1), 1) := dk_2 (dk_at dksJ28_remove_2 5 rfl rfl)
theorem dJ28_remove_54 : decode cJ28_remove 54 = .ok (.putfield 17, 3) := dk_181 0 17 (dk_at dksJ28_remove_2 6 rfl rfl)
theorem dJ28_remove_57 : decode cJ28_remove 57 = .ok (.aload_n 0, 1) := dk_42 (dk_at dksJ28_remove_2 9 rfl rfl)
theorem dJ28_remove_58 : decode cJ28_remove 58 = .ok (.aload_n 0, 1) := dk_42 (dk_at dksJ28_remove_2 10 rfl rfl)
theorem dJ28_remove_59 : decode cJ28_remove 59 = .ok (.getfield 1, 3) := dk_180 0 1 (dk_at dksJ28_remove_2 11 rfl rfl)
theorem dJ28_remove_62 : decode cJ28_remove 62 = .ok (.getfield 20, 3) := dk_180 0 20 (dk_at dksJ28_remove_2 14 rfl rfl)
theorem dJ28_remove_65 : decode cJ28_remove 65 = .ok (.putfield 25, 3) := dk_181 0 25 (dk_at dksJ28_remove_2 17 rfl rfl)
theorem dJ28_remove_68 : decode cJ28_remove 68 = .ok (.goto 12, 3) := dk_167 0 12 (dk_at dksJ28_remove_2 20 rfl rfl)
theorem dJ28_remove_71 : decode cJ28_remove 71 = .ok (.astore_n 1, 1) := dk_76 (dk_at dksJ28_remove_2 23 rfl rfl)
theorem dJ28_remove_72 : decode cJ28_remove 72 = .ok (.new 52, 3) := dk_187 0 52 (dk_at dksJ28_remove_3 0 rfl rfl)
theorem dJ28_remove_75 : decode cJ28_remove 75 = .ok (.dup, 1) := dk_89 (dk_at dksJ28_remove_3 3 rfl rfl)
theorem dJ28_remove_76 : decode cJ28_remove 76 = .ok (.invokespecial 54, 3) := dk_183 0 54 (dk_at dksJ28_remove_3 4 rfl rfl)
theorem dJ28_remove_79 : decode cJ28_remove 79 = .ok (.athrow, 1) := dk_191 (dk_at dksJ28_remove_3 7 rfl rfl)
theorem dJ28_remove_80 : decode cJ28_remove 80 = .ok (.return_, 1) := dk_177 (dk_at dksJ28_remove_3 8 rfl rfl)
theorem q154 : (Jvm.Cond.initialized "java/util/AbstractList$Itr") ∈ lw_all := lw_g (lw_at lw_m1 39 rfl) rfl
theorem q204 : (Jvm.Cond.fieldLink "java/util/AbstractList$Itr" (20 : Nat) "java/util/AbstractList" "modCount" "I") ∈ lw_all := lw_g (lw_at lw_m1 89 rfl) rfl
theorem q1321 : (Jvm.Cond.instanceMethod ({ cls := "java/util/AbstractList$Itr", name := "hasNext", desc := "()Z" } : Jvm.MethodName)) ∈ lw_all := lw_g (lw_at lw_m6 6 rfl) rfl
theorem q1322 : (Jvm.Cond.publicMethod ({ cls := "java/util/AbstractList$Itr", name := "hasNext", desc := "()Z" } : Jvm.MethodName)) ∈ lw_tbl := lw_at lw_m6 7 rfl
theorem q1323 : (Jvm.Cond.code ({ cls := "java/util/AbstractList$Itr", name := "hasNext", desc := "()Z" } : Jvm.MethodName) prog_43_method_2_code (1 : Nat) (Option.some Jvm.ClassFile.FieldType.boolean)) ∈ lw_all := lw_g (lw_at lw_m6 8 rfl) rfl
theorem q1324 : (Jvm.Cond.methodLink "java/util/AbstractList$Itr" (28 : Nat) ({ cls := "java/util/AbstractList", name := "size", desc := "()I" } : Jvm.MethodName)) ∈ lw_all := lw_g (lw_at lw_m6 9 rfl) rfl
theorem q1340 : (Jvm.Cond.instanceMethod ({ cls := "java/util/AbstractList$Itr", name := "next", desc := "()Ljava/lang/Object;" } : Jvm.MethodName)) ∈ lw_all := lw_g (lw_at lw_m6 25 rfl) rfl
theorem q1341 : (Jvm.Cond.publicMethod ({ cls := "java/util/AbstractList$Itr", name := "next", desc := "()Ljava/lang/Object;" } : Jvm.MethodName)) ∈ lw_tbl := lw_at lw_m6 26 rfl
theorem q1342 : (Jvm.Cond.codeWith ({ cls := "java/util/AbstractList$Itr", name := "next", desc := "()Ljava/lang/Object;" } : Jvm.MethodName) prog_43_method_3_code (3 : Nat) (Option.some (Jvm.ClassFile.FieldType.object "java/lang/Object")) [((4 : Nat), (31 : Nat), (32 : Nat), (39 : Nat))]) ∈ lw_all := lw_g (lw_at lw_m6 27 rfl) rfl
theorem q1343 : (Jvm.Cond.methodLink "java/util/AbstractList$Itr" (32 : Nat) ({ cls := "java/util/AbstractList$Itr", name := "checkForComodification", desc := "()V" } : Jvm.MethodName)) ∈ lw_all := lw_g (lw_at lw_m6 28 rfl) rfl
theorem q1344 : (Jvm.Cond.instanceMethod ({ cls := "java/util/AbstractList$Itr", name := "checkForComodification", desc := "()V" } : Jvm.MethodName)) ∈ lw_all := lw_g (lw_at lw_m6 29 rfl) rfl
theorem q1345 : (Jvm.Cond.sameMethod "java/util/AbstractList$Itr" "java/util/AbstractList$Itr" "checkForComodification" "()V") ∈ lw_all := lw_g (lw_at lw_m6 30 rfl) rfl
theorem q1347 : (Jvm.Cond.code ({ cls := "java/util/AbstractList$Itr", name := "checkForComodification", desc := "()V" } : Jvm.MethodName) prog_43_method_5_code (1 : Nat) (Option.none : Option Jvm.ClassFile.FieldType)) ∈ lw_all := lw_g (lw_at lw_m6 32 rfl) rfl
theorem q1348 : (Jvm.Cond.methodLink "java/util/AbstractList$Itr" (35 : Nat) ({ cls := "java/util/AbstractList", name := "get", desc := "(I)Ljava/lang/Object;" } : Jvm.MethodName)) ∈ lw_all := lw_g (lw_at lw_m6 33 rfl) rfl
theorem q1363 : (Jvm.Cond.classLink "java/util/AbstractList$Itr" (41 : Nat) "java/util/NoSuchElementException") ∈ lw_all := lw_g (lw_at lw_m6 48 rfl) rfl
theorem q1364 : (Jvm.Cond.methodLink "java/util/AbstractList$Itr" (43 : Nat) ({ cls := "java/util/NoSuchElementException", name := "<init>", desc := "(Ljava/lang/Throwable;)V" } : Jvm.MethodName)) ∈ lw_all := lw_g (lw_at lw_m6 49 rfl) rfl
theorem q1764 : (Jvm.Cond.instanceMethod ({ cls := "java/util/AbstractList$Itr", name := "remove", desc := "()V" } : Jvm.MethodName)) ∈ lw_all := lw_g (lw_at lw_m7 209 rfl) rfl
theorem q1765 : (Jvm.Cond.publicMethod ({ cls := "java/util/AbstractList$Itr", name := "remove", desc := "()V" } : Jvm.MethodName)) ∈ lw_tbl := lw_at lw_m7 210 rfl
theorem q1766 : (Jvm.Cond.codeWith ({ cls := "java/util/AbstractList$Itr", name := "remove", desc := "()V" } : Jvm.MethodName) prog_43_method_4_code (2 : Nat) (Option.none : Option Jvm.ClassFile.FieldType) [((19 : Nat), (68 : Nat), (71 : Nat), (39 : Nat))]) ∈ lw_all := lw_g (lw_at lw_m7 211 rfl) rfl
theorem q1767 : (Jvm.Cond.classLink "java/util/AbstractList$Itr" (46 : Nat) "java/lang/IllegalStateException") ∈ lw_all := lw_g (lw_at lw_m7 212 rfl) rfl
theorem q1768 : (Jvm.Cond.methodLink "java/util/AbstractList$Itr" (48 : Nat) ({ cls := "java/lang/IllegalStateException", name := "<init>", desc := "()V" } : Jvm.MethodName)) ∈ lw_all := lw_g (lw_at lw_m7 213 rfl) rfl
theorem q1769 : (Jvm.Cond.methodLink "java/util/AbstractList$Itr" (49 : Nat) ({ cls := "java/util/AbstractList", name := "remove", desc := "(I)Ljava/lang/Object;" } : Jvm.MethodName)) ∈ lw_all := lw_g (lw_at lw_m7 214 rfl) rfl
theorem q1780 : (Jvm.Cond.classLink "java/util/AbstractList$Itr" (52 : Nat) "java/util/ConcurrentModificationException") ∈ lw_all := lw_g (lw_at lw_m7 225 rfl) rfl
theorem q1789 : (Jvm.Cond.methodLink "java/util/AbstractList$Itr" (54 : Nat) ({ cls := "java/util/ConcurrentModificationException", name := "<init>", desc := "()V" } : Jvm.MethodName)) ∈ lw_all := lw_g (lw_at lw_m7 234 rfl) rfl
theorem q2895 : (Jvm.Cond.fieldLink "java/util/AbstractList$Itr" (1 : Nat) "java/util/AbstractList$Itr" "this$0" "Ljava/util/AbstractList;") ∈ lw_all := lw_g (lw_at lw_m12 140 rfl) rfl
theorem q2896 : (Jvm.Cond.fieldLink "java/util/AbstractList$Itr" (13 : Nat) "java/util/AbstractList$Itr" "cursor" "I") ∈ lw_all := lw_g (lw_at lw_m12 141 rfl) rfl
theorem q2897 : (Jvm.Cond.fieldLink "java/util/AbstractList$Itr" (17 : Nat) "java/util/AbstractList$Itr" "lastRet" "I") ∈ lw_all := lw_g (lw_at lw_m12 142 rfl) rfl
theorem q2898 : (Jvm.Cond.fieldLink "java/util/AbstractList$Itr" (25 : Nat) "java/util/AbstractList$Itr" "expectedModCount" "I") ∈ lw_all := lw_g (lw_at lw_m12 143 rfl) rfl
/-! java/util/LinkedList$ListItr -/
set_option maxRecDepth 100000
def RJ29 : String := "java/util/LinkedList$ListItr"
def TJ29 : u_T := fun k => match k with
  | 0 => ("java/util/LinkedList$ListItr", "lastReturned", "Ljava/util/LinkedList$Node;", false)
  | 1 => ("java/util/LinkedList$ListItr", "next", "Ljava/util/LinkedList$Node;", false)
  | 2 => ("java/util/LinkedList$ListItr", "nextIndex", "I", false)
  | 3 => ("java/util/LinkedList$ListItr", "expectedModCount", "I", false)
  | _ => ("java/util/LinkedList$ListItr", "this$0", "Ljava/util/LinkedList;", true)
def tyJ29 : Nat → FieldType := fun k => match k with
  | 0 => .object "java/util/LinkedList$Node"
  | 1 => .object "java/util/LinkedList$Node"
  | 2 => .int
  | 3 => .int
  | _ => .object "java/util/LinkedList"
abbrev wsJ290 : List Cond := u_ws RJ29 TJ29 5
theorem nmJ29 : ∀ a, a < 5 → ∀ b, b < 5 → a ≠ b → (TJ29 a).2.1 ≠ (TJ29 b).2.1 := by decide +kernel
theorem tyJ29_ok : ∀ k, k < 5 → parseFieldDescriptor (TJ29 k).2.2.1 = some (tyJ29 k) := by decide +kernel
abbrev cJ29_init : ByteArray := prog_60_method_1_code
def yJ29_init : MethodName := ⟨RJ29, "<init>", "(Ljava/util/LinkedList;I)V"⟩
def dkwJ29_init_1 : List UInt8 := [180, 0, 22, 160, 0, 7, 1, 167, 0, 8, 43, 28, 182, 0, 25, 181, 0, 29, 42, 28, 181, 0, 33, 177]
abbrev dktJ29_init_1 : List UInt8 := dkwJ29_init_1 ++ []
def dkwJ29_init_0 : List UInt8 := [42, 43, 181, 0, 1, 42, 183, 0, 7, 42, 42, 180, 0, 1, 180, 0, 13, 181, 0, 19, 42, 28, 43]
abbrev dktJ29_init_0 : List UInt8 := dkwJ29_init_0 ++ dktJ29_init_1
theorem dksJ29_init_0 : cJ29_init.data.toList.drop 0 = dktJ29_init_0 := by decide +kernel
theorem dksJ29_init_1 : cJ29_init.data.toList.drop 23 = dktJ29_init_1 := dk_seg dksJ29_init_0 23 rfl rfl
theorem dJ29_init_0 : decode cJ29_init 0 = .ok (.aload_n 0, 1) := dk_42 (dk_at dksJ29_init_0 0 rfl rfl)
theorem dJ29_init_1 : decode cJ29_init 1 = .ok (.aload_n 1, 1) := dk_43 (dk_at dksJ29_init_0 1 rfl rfl)
theorem dJ29_init_2 : decode cJ29_init 2 = .ok (.putfield 1, 3) := dk_181 0 1 (dk_at dksJ29_init_0 2 rfl rfl)
theorem dJ29_init_5 : decode cJ29_init 5 = .ok (.aload_n 0, 1) := dk_42 (dk_at dksJ29_init_0 5 rfl rfl)
theorem dJ29_init_6 : decode cJ29_init 6 = .ok (.invokespecial 7, 3) := dk_183 0 7 (dk_at dksJ29_init_0 6 rfl rfl)
theorem dJ29_init_9 : decode cJ29_init 9 = .ok (.aload_n 0, 1) := dk_42 (dk_at dksJ29_init_0 9 rfl rfl)
theorem dJ29_init_10 : decode cJ29_init 10 = .ok (.aload_n 0, 1) := dk_42 (dk_at dksJ29_init_0 10 rfl rfl)
theorem dJ29_init_11 : decode cJ29_init 11 = .ok (.getfield 1, 3) := dk_180 0 1 (dk_at dksJ29_init_0 11 rfl rfl)
theorem dJ29_init_14 : decode cJ29_init 14 = .ok (.getfield 13, 3) := dk_180 0 13 (dk_at dksJ29_init_0 14 rfl rfl)
theorem dJ29_init_17 : decode cJ29_init 17 = .ok (.putfield 19, 3) := dk_181 0 19 (dk_at dksJ29_init_0 17 rfl rfl)
theorem dJ29_init_20 : decode cJ29_init 20 = .ok (.aload_n 0, 1) := dk_42 (dk_at dksJ29_init_0 20 rfl rfl)
theorem dJ29_init_21 : decode cJ29_init 21 = .ok (.iload_n 2, 1) := dk_28 (dk_at dksJ29_init_0 21 rfl rfl)
theorem dJ29_init_22 : decode cJ29_init 22 = .ok (.aload_n 1, 1) := dk_43 (dk_at dksJ29_init_0 22 rfl rfl)
theorem dJ29_init_23 : decode cJ29_init 23 = .ok (.getfield 22, 3) := dk_180 0 22 (dk_at dksJ29_init_1 0 rfl rfl)
theorem dJ29_init_26 : decode cJ29_init 26 = .ok (.if_icmp .ne 7, 3) := dk_160 0 7 (dk_at dksJ29_init_1 3 rfl rfl)
theorem dJ29_init_29 : decode cJ29_init 29 = .ok (.aconst_null, 1) := dk_1 (dk_at dksJ29_init_1 6 rfl rfl)
theorem dJ29_init_30 : decode cJ29_init 30 = .ok (.goto 8, 3) := dk_167 0 8 (dk_at dksJ29_init_1 7 rfl rfl)
theorem dJ29_init_33 : decode cJ29_init 33 = .ok (.aload_n 1, 1) := dk_43 (dk_at dksJ29_init_1 10 rfl rfl)
theorem dJ29_init_34 : decode cJ29_init 34 = .ok (.iload_n 2, 1) := dk_28 (dk_at dksJ29_init_1 11 rfl rfl)
theorem dJ29_init_35 : decode cJ29_init 35 = .ok (.invokevirtual 25, 3) := dk_182 0 25 (dk_at dksJ29_init_1 12 rfl rfl)
theorem dJ29_init_38 : decode cJ29_init 38 = .ok (.putfield 29, 3) := dk_181 0 29 (dk_at dksJ29_init_1 15 rfl rfl)
theorem dJ29_init_41 : decode cJ29_init 41 = .ok (.aload_n 0, 1) := dk_42 (dk_at dksJ29_init_1 18 rfl rfl)
theorem dJ29_init_42 : decode cJ29_init 42 = .ok (.iload_n 2, 1) := dk_28 (dk_at dksJ29_init_1 19 rfl rfl)
theorem dJ29_init_43 : decode cJ29_init 43 = .ok (.putfield 33, 3) := dk_181 0 33 (dk_at dksJ29_init_1 20 rfl rfl)
theorem dJ29_init_46 : decode cJ29_init 46 = .ok (.return_, 1) := dk_177 (dk_at dksJ29_init_1 23 rfl rfl)
abbrev cJ29_hasNext : ByteArray := prog_60_method_2_code
def yJ29_hasNext : MethodName := ⟨RJ29, "hasNext", "()Z"⟩
def dkwJ29_hasNext_0 : List UInt8 := [42, 180, 0, 33, 42, 180, 0, 1, 180, 0, 22, 162, 0, 7, 4, 167, 0, 4, 3, 172]
abbrev dktJ29_hasNext_0 : List UInt8 := dkwJ29_hasNext_0 ++ []
theorem dksJ29_hasNext_0 : cJ29_hasNext.data.toList.drop 0 = dktJ29_hasNext_0 := by decide +kernel
theorem dJ29_hasNext_0 : decode cJ29_hasNext 0 = .ok (.aload_n 0, 1) := dk_42 (dk_at dksJ29_hasNext_0 0 rfl rfl)
theorem dJ29_hasNext_1 : decode cJ29_hasNext 1 = .ok (.getfield 33, 3) := dk_180 0 33 (dk_at dksJ29_hasNext_0 1 rfl rfl)
theorem dJ29_hasNext_4 : decode cJ29_hasNext 4 = .ok (.aload_n 0, 1) := dk_42 (dk_at dksJ29_hasNext_0 4 rfl rfl)
theorem dJ29_hasNext_5 : decode cJ29_hasNext 5 = .ok (.getfield 1, 3) := dk_180 0 1 (dk_at dksJ29_hasNext_0 5 rfl rfl)
theorem dJ29_hasNext_8 : decode cJ29_hasNext 8 = .ok (.getfield 22, 3) := dk_180 0 22 (dk_at dksJ29_hasNext_0 8 rfl rfl)
theorem dJ29_hasNext_11 : decode cJ29_hasNext 11 = .ok (.if_icmp .ge 7, 3) := dk_162 0 7 (dk_at dksJ29_hasNext_0 11 rfl rfl)
theorem dJ29_hasNext_14 : decode cJ29_hasNext 14 = .ok (.iconst 1, 1) := dk_4 (dk_at dksJ29_hasNext_0 14 rfl rfl)
theorem dJ29_hasNext_15 : decode cJ29_hasNext 15 = .ok (.goto 4, 3) := dk_167 0 4 (dk_at dksJ29_hasNext_0 15 rfl rfl)
theorem dJ29_hasNext_18 : decode cJ29_hasNext 18 = .ok (.iconst 0, 1) := dk_3 (dk_at dksJ29_hasNext_0 18 rfl rfl)
theorem dJ29_hasNext_19 : decode cJ29_hasNext 19 = .ok (.ireturn, 1) := dk_172 (dk_at dksJ29_hasNext_0 19 rfl rfl)
abbrev cJ29_next : ByteArray := prog_60_method_3_code
def yJ29_next : MethodName := ⟨RJ29, "next", "()Ljava/lang/Object;"⟩
def dkwJ29_next_2 : List UInt8 := [42, 180, 0, 46, 180, 0, 52, 176]
abbrev dktJ29_next_2 : List UInt8 := dkwJ29_next_2 ++ []
def dkwJ29_next_1 : List UInt8 := [181, 0, 46, 42, 42, 180, 0, 29, 180, 0, 49, 181, 0, 29, 42, 89, 180, 0, 33, 4, 96, 181, 0, 33]
abbrev dktJ29_next_1 : List UInt8 := dkwJ29_next_1 ++ dktJ29_next_2
def dkwJ29_next_0 : List UInt8 := [42, 182, 0, 36, 42, 182, 0, 39, 154, 0, 11, 187, 0, 43, 89, 183, 0, 45, 191, 42, 42, 180, 0, 29]
abbrev dktJ29_next_0 : List UInt8 := dkwJ29_next_0 ++ dktJ29_next_1
theorem dksJ29_next_0 : cJ29_next.data.toList.drop 0 = dktJ29_next_0 := by decide +kernel
theorem dksJ29_next_1 : cJ29_next.data.toList.drop 24 = dktJ29_next_1 := dk_seg dksJ29_next_0 24 rfl rfl
theorem dksJ29_next_2 : cJ29_next.data.toList.drop 48 = dktJ29_next_2 := dk_seg dksJ29_next_1 24 rfl rfl
theorem dJ29_next_0 : decode cJ29_next 0 = .ok (.aload_n 0, 1) := dk_42 (dk_at dksJ29_next_0 0 rfl rfl)
theorem dJ29_next_1 : decode cJ29_next 1 = .ok (.invokevirtual 36, 3) := dk_182 0 36 (dk_at dksJ29_next_0 1 rfl rfl)
theorem dJ29_next_4 : decode cJ29_next 4 = .ok (.aload_n 0, 1) := dk_42 (dk_at dksJ29_next_0 4 rfl rfl)
theorem dJ29_next_5 : decode cJ29_next 5 = .ok (.invokevirtual 39, 3) := dk_182 0 39 (dk_at dksJ29_next_0 5 rfl rfl)
theorem dJ29_next_8 : decode cJ29_next 8 = .ok (.ifCond .ne 11, 3) := dk_154 0 11 (dk_at dksJ29_next_0 8 rfl rfl)
theorem dJ29_next_11 : decode cJ29_next 11 = .ok (.new 43, 3) := dk_187 0 43 (dk_at dksJ29_next_0 11 rfl rfl)
theorem dJ29_next_14 : decode cJ29_next 14 = .ok (.dup, 1) := dk_89 (dk_at dksJ29_next_0 14 rfl rfl)
theorem dJ29_next_15 : decode cJ29_next 15 = .ok (.invokespecial 45, 3) := dk_183 0 45 (dk_at dksJ29_next_0 15 rfl rfl)
theorem dJ29_next_18 : decode cJ29_next 18 = .ok (.athrow, 1) := dk_191 (dk_at dksJ29_next_0 18 rfl rfl)
theorem dJ29_next_19 : decode cJ29_next 19 = .ok (.aload_n 0, 1) := dk_42 (dk_at dksJ29_next_0 19 rfl rfl)
theorem dJ29_next_20 : decode cJ29_next 20 = .ok (.aload_n 0, 1) := dk_42 (dk_at dksJ29_next_0 20 rfl rfl)
theorem dJ29_next_21 : decode cJ29_next 21 = .ok (.getfield 29, 3) := dk_180 0 29 (dk_at dksJ29_next_0 21 rfl rfl)
theorem dJ29_next_24 : decode cJ29_next 24 = .ok (.putfield 46, 3) := dk_181 0 46 (dk_at dksJ29_next_1 0 rfl rfl)
theorem dJ29_next_27 : decode cJ29_next 27 = .ok (.aload_n 0, 1) := dk_42 (dk_at dksJ29_next_1 3 rfl rfl)
theorem dJ29_next_28 : decode cJ29_next 28 = .ok (.aload_n 0, 1) := dk_42 (dk_at dksJ29_next_1 4 rfl rfl)
theorem dJ29_next_29 : decode cJ29_next 29 = .ok (.getfield 29, 3) := dk_180 0 29 (dk_at dksJ29_next_1 5 rfl rfl)
theorem dJ29_next_32 : decode cJ29_next 32 = .ok (.getfield 49, 3) := dk_180 0 49 (dk_at dksJ29_next_1 8 rfl rfl)
theorem dJ29_next_35 : decode cJ29_next 35 = .ok (.putfield 29, 3) := dk_181 0 29 (dk_at dksJ29_next_1 11 rfl rfl)
theorem dJ29_next_38 : decode cJ29_next 38 = .ok (.aload_n 0, 1) := dk_42 (dk_at dksJ29_next_1 14 rfl rfl)
theorem dJ29_next_39 : decode cJ29_next 39 = .ok (.dup, 1) := dk_89 (dk_at dksJ29_next_1 15 rfl rfl)
theorem dJ29_next_40 : decode cJ29_next 40 = .ok (.getfield 33, 3) := dk_180 0 33 (dk_at dksJ29_next_1 16 rfl rfl)
theorem dJ29_next_43 : decode cJ29_next 43 = .ok (.iconst 1, 1) := dk_4 (dk_at dksJ29_next_1 19 rfl rfl)
theorem dJ29_next_44 : decode cJ29_next 44 = .ok (.iadd, 1) := dk_96 (dk_at dksJ29_next_1 20 rfl rfl)
theorem dJ29_next_45 : decode cJ29_next 45 = .ok (.putfield 33, 3) := dk_181 0 33 (dk_at dksJ29_next_1 21 rfl rfl)
theorem dJ29_next_48 : decode cJ29_next 48 = .ok (.aload_n 0, 1) := dk_42 (dk_at dksJ29_next_2 0 rfl rfl)
theorem dJ29_next_49 : decode cJ29_next 49 = .ok (.getfield 46, 3) := dk_180 0 46 (dk_at dksJ29_next_2 1 rfl rfl)
theorem dJ29_next_52 : decode cJ29_next 52 = .ok (.getfield 52, 3) := dk_180 0 52 (dk_at dksJ29_next_2 4 rfl rfl)
theorem dJ29_next_55 : decode cJ29_next 55 = .ok (.areturn, 1) := dk_176 (dk_at dksJ29_next_2 7 rfl rfl)
abbrev cJ29_checkForComodification : ByteArray := prog_60_method_12_code
def yJ29_checkForComodification : MethodName := ⟨RJ29, "checkForComodification", "()V"⟩
def dkwJ29_checkForComodification_0 : List UInt8 := [42, 180, 0, 1, 180, 0, 13, 42, 180, 0, 19, 159, 0, 11, 187, 0, 91, 89, 183, 0, 93, 191, 177]
abbrev dktJ29_checkForComodification_0 : List UInt8 := dkwJ29_checkForComodification_0 ++ []
theorem dksJ29_checkForComodification_0 : cJ29_checkForComodification.data.toList.drop 0 = dktJ29_checkForComodification_0 := by decide +kernel
theorem dJ29_checkForComodification_0 : decode cJ29_checkForComodification 0 = .ok (.aload_n 0, 1) := dk_42 (dk_at dksJ29_checkForComodification_0 0 rfl rfl)
theorem dJ29_checkForComodification_1 : decode cJ29_checkForComodification 1 = .ok (.getfield 1, 3) := dk_180 0 1 (dk_at dksJ29_checkForComodification_0 1 rfl rfl)
theorem dJ29_checkForComodification_4 : decode cJ29_checkForComodification 4 = .ok (.getfield 13, 3) := dk_180 0 13 (dk_at dksJ29_checkForComodification_0 4 rfl rfl)
theorem dJ29_checkForComodification_7 : decode cJ29_checkForComodification 7 = .ok (.aload_n 0, 1) := dk_42 (dk_at dksJ29_checkForComodification_0 7 rfl rfl)
theorem dJ29_checkForComodification_8 : decode cJ29_checkForComodification 8 = .ok (.getfield 19, 3) := dk_180 0 19 (dk_at dksJ29_checkForComodification_0 8 rfl rfl)
theorem dJ29_checkForComodification_11 : decode cJ29_checkForComodification 11 = .ok (.if_icmp .eq 11, 3) := dk_159 0 11 (dk_at dksJ29_checkForComodification_0 11 rfl rfl)
theorem dJ29_checkForComodification_14 : decode cJ29_checkForComodification 14 = .ok (.new 91, 3) := dk_187 0 91 (dk_at dksJ29_checkForComodification_0 14 rfl rfl)
theorem dJ29_checkForComodification_17 : decode cJ29_checkForComodification 17 = .ok (.dup, 1) := dk_89 (dk_at dksJ29_checkForComodification_0 17 rfl rfl)
theorem dJ29_checkForComodification_18 : decode cJ29_checkForComodification 18 = .ok (.invokespecial 93, 3) := dk_183 0 93 (dk_at dksJ29_checkForComodification_0 18 rfl rfl)
theorem dJ29_checkForComodification_21 : decode cJ29_checkForComodification 21 = .ok (.athrow, 1) := dk_191 (dk_at dksJ29_checkForComodification_0 21 rfl rfl)
theorem dJ29_checkForComodification_22 : decode cJ29_checkForComodification 22 = .ok (.return_, 1) := dk_177 (dk_at dksJ29_checkForComodification_0 22 rfl rfl)
abbrev cJ29_remove : ByteArray := prog_60_method_8_code
def yJ29_remove : MethodName := ⟨RJ29, "remove", "()V"⟩
def dkwJ29_remove_3 : List UInt8 := [181, 0, 46, 42, 89, 180, 0, 19, 4, 96, 181, 0, 19, 177]
abbrev dktJ29_remove_3 : List UInt8 := dkwJ29_remove_3 ++ []
def dkwJ29_remove_2 : List UInt8 := [166, 0, 11, 42, 43, 181, 0, 29, 167, 0, 13, 42, 89, 180, 0, 33, 4, 100, 181, 0, 33, 42, 1]
abbrev dktJ29_remove_2 : List UInt8 := dkwJ29_remove_2 ++ dktJ29_remove_3
def dkwJ29_remove_1 : List UInt8 := [180, 0, 49, 76, 42, 180, 0, 1, 42, 180, 0, 46, 182, 0, 68, 87, 42, 180, 0, 29, 42, 180, 0, 46]
abbrev dktJ29_remove_1 : List UInt8 := dkwJ29_remove_1 ++ dktJ29_remove_2
def dkwJ29_remove_0 : List UInt8 := [42, 182, 0, 36, 42, 180, 0, 46, 199, 0, 11, 187, 0, 65, 89, 183, 0, 67, 191, 42, 180, 0, 46]
abbrev dktJ29_remove_0 : List UInt8 := dkwJ29_remove_0 ++ dktJ29_remove_1
theorem dksJ29_remove_0 : cJ29_remove.data.toList.drop 0 = dktJ29_remove_0 := by decide +kernel
theorem dksJ29_remove_1 : cJ29_remove.data.toList.drop 23 = dktJ29_remove_1 := dk_seg dksJ29_remove_0 23 rfl rfl
theorem dksJ29_remove_2 : cJ29_remove.data.toList.drop 47 = dktJ29_remove_2 := dk_seg dksJ29_remove_1 24 rfl rfl
theorem dksJ29_remove_3 : cJ29_remove.data.toList.drop 70 = dktJ29_remove_3 := dk_seg dksJ29_remove_2 23 rfl rfl
theorem dJ29_remove_0 : decode cJ29_remove 0 = .ok (.aload_n 0, 1) := dk_42 (dk_at dksJ29_remove_0 0 rfl rfl)
theorem dJ29_remove_1 : decode cJ29_remove 1 = .ok (.invokevirtual 36, 3) := dk_182 0 36 (dk_at dksJ29_remove_0 1 rfl rfl)
theorem dJ29_remove_4 : decode cJ29_remove 4 = .ok (.aload_n 0, 1) := dk_42 (dk_at dksJ29_remove_0 4 rfl rfl)
theorem dJ29_remove_5 : decode cJ29_remove 5 = .ok (.getfield 46, 3) := dk_180 0 46 (dk_at dksJ29_remove_0 5 rfl rfl)
theorem dJ29_remove_8 : decode cJ29_remove 8 = .ok (.ifnonnull 11, 3) := dk_199 0 11 (dk_at dksJ29_remove_0 8 rfl rfl)
theorem dJ29_remove_11 : decode cJ29_remove 11 = .ok (.new 65, 3) := dk_187 0 65 (dk_at dksJ29_remove_0 11 rfl rfl)
theorem dJ29_remove_14 : decode cJ29_remove 14 = .ok (.dup, 1) := dk_89 (dk_at dksJ29_remove_0 14 rfl rfl)
theorem dJ29_remove_15 : decode cJ29_remove 15 = .ok (.invokespecial 67, 3) := dk_183 0 67 (dk_at dksJ29_remove_0 15 rfl rfl)
theorem dJ29_remove_18 : decode cJ29_remove 18 = .ok (.athrow, 1) := dk_191 (dk_at dksJ29_remove_0 18 rfl rfl)
theorem dJ29_remove_19 : decode cJ29_remove 19 = .ok (.aload_n 0, 1) := dk_42 (dk_at dksJ29_remove_0 19 rfl rfl)
theorem dJ29_remove_20 : decode cJ29_remove 20 = .ok (.getfield 46, 3) := dk_180 0 46 (dk_at dksJ29_remove_0 20 rfl rfl)
theorem dJ29_remove_23 : decode cJ29_remove 23 = .ok (.getfield 49, 3) := dk_180 0 49 (dk_at dksJ29_remove_1 0 rfl rfl)
theorem dJ29_remove_26 : decode cJ29_remove 26 = .ok (.astore_n 1, 1) := dk_76 (dk_at dksJ29_remove_1 3 rfl rfl)
theorem dJ29_remove_27 : decode cJ29_remove 27 = .ok (.aload_n 0, 1) := dk_42 (dk_at dksJ29_remove_1 4 rfl rfl)
theorem dJ29_remove_28 : decode cJ29_remove 28 = .ok (.getfield 1, 3) := dk_180 0 1 (dk_at dksJ29_remove_1 5 rfl rfl)
theorem dJ29_remove_31 : decode cJ29_remove 31 = .ok (.aload_n 0, 1) := dk_42 (dk_at dksJ29_remove_1 8 rfl rfl)
theorem dJ29_remove_32 : decode cJ29_remove 32 = .ok (.getfield 46, 3) := dk_180 0 46 (dk_at dksJ29_remove_1 9 rfl rfl)
theorem dJ29_remove_35 : decode cJ29_remove 35 = .ok (.invokevirtual 68, 3) := dk_182 0 68 (dk_at dksJ29_remove_1 12 rfl rfl)
theorem dJ29_remove_38 : decode cJ29_remove 38 = .ok (.pop, 1) := dk_87 (dk_at dksJ29_remove_1 15 rfl rfl)
theorem dJ29_remove_39 : decode cJ29_remove 39 = .ok (.aload_n 0, 1) := dk_42 (dk_at dksJ29_remove_1 16 rfl rfl)
theorem dJ29_remove_40 : decode cJ29_remove 40 = .ok (.getfield 29, 3) := dk_180 0 29 (dk_at dksJ29_remove_1 17 rfl rfl)
theorem dJ29_remove_43 : decode cJ29_remove 43 = .ok (.aload_n 0, 1) := dk_42 (dk_at dksJ29_remove_1 20 rfl rfl)
theorem dJ29_remove_44 : decode cJ29_remove 44 = .ok (.getfield 46, 3) := dk_180 0 46 (dk_at dksJ29_remove_1 21 rfl rfl)
theorem dJ29_remove_47 : decode cJ29_remove 47 = .ok (.if_acmp .ne 11, 3) := dk_166 0 11 (dk_at dksJ29_remove_2 0 rfl rfl)
theorem dJ29_remove_50 : decode cJ29_remove 50 = .ok (.aload_n 0, 1) := dk_42 (dk_at dksJ29_remove_2 3 rfl rfl)
theorem dJ29_remove_51 : decode cJ29_remove 51 = .ok (.aload_n 1, 1) := dk_43 (dk_at dksJ29_remove_2 4 rfl rfl)
theorem dJ29_remove_52 : decode cJ29_remove 52 = .ok (.putfield 29, 3) := dk_181 0 29 (dk_at dksJ29_remove_2 5 rfl rfl)
theorem dJ29_remove_55 : decode cJ29_remove 55 = .ok (.goto 13, 3) := dk_167 0 13 (dk_at dksJ29_remove_2 8 rfl rfl)
theorem dJ29_remove_58 : decode cJ29_remove 58 = .ok (.aload_n 0, 1) := dk_42 (dk_at dksJ29_remove_2 11 rfl rfl)
theorem dJ29_remove_59 : decode cJ29_remove 59 = .ok (.dup, 1) := dk_89 (dk_at dksJ29_remove_2 12 rfl rfl)
theorem dJ29_remove_60 : decode cJ29_remove 60 = .ok (.getfield 33, 3) := dk_180 0 33 (dk_at dksJ29_remove_2 13 rfl rfl)
theorem dJ29_remove_63 : decode cJ29_remove 63 = .ok (.iconst 1, 1) := dk_4 (dk_at dksJ29_remove_2 16 rfl rfl)
theorem dJ29_remove_64 : decode cJ29_remove 64 = .ok (.isub, 1) := dk_100 (dk_at dksJ29_remove_2 17 rfl rfl)
theorem dJ29_remove_65 : decode cJ29_remove 65 = .ok (.putfield 33, 3) := dk_181 0 33 (dk_at dksJ29_remove_2 18 rfl rfl)
theorem dJ29_remove_68 : decode cJ29_remove 68 = .ok (.aload_n 0, 1) := dk_42 (dk_at dksJ29_remove_2 21 rfl rfl)
theorem dJ29_remove_69 : decode cJ29_remove 69 = .ok (.aconst_null, 1) := dk_1 (dk_at dksJ29_remove_2 22 rfl rfl)
theorem dJ29_remove_70 : decode cJ29_remove 70 = .ok (.putfield 46, 3) := dk_181 0 46 (dk_at dksJ29_remove_3 0 rfl rfl)
theorem dJ29_remove_73 : decode cJ29_remove 73 = .ok (.aload_n 0, 1) := dk_42 (dk_at dksJ29_remove_3 3 rfl rfl)
theorem dJ29_remove_74 : decode cJ29_remove 74 = .ok (.dup, 1) := dk_89 (dk_at dksJ29_remove_3 4 rfl rfl)
theorem dJ29_remove_75 : decode cJ29_remove 75 = .ok (.getfield 19, 3) := dk_180 0 19 (dk_at dksJ29_remove_3 5 rfl rfl)
theorem dJ29_remove_78 : decode cJ29_remove 78 = .ok (.iconst 1, 1) := dk_4 (dk_at dksJ29_remove_3 8 rfl rfl)
theorem dJ29_remove_79 : decode cJ29_remove 79 = .ok (.iadd, 1) := dk_96 (dk_at dksJ29_remove_3 9 rfl rfl)
theorem dJ29_remove_80 : decode cJ29_remove 80 = .ok (.putfield 19, 3) := dk_181 0 19 (dk_at dksJ29_remove_3 10 rfl rfl)
theorem dJ29_remove_83 : decode cJ29_remove 83 = .ok (.return_, 1) := dk_177 (dk_at dksJ29_remove_3 13 rfl rfl)
theorem q156 : (Jvm.Cond.initialized "java/util/LinkedList$ListItr") ∈ lw_all := lw_g (lw_at lw_m1 41 rfl) rfl
theorem q198 : (Jvm.Cond.fieldLink "java/util/LinkedList$ListItr" (22 : Nat) "java/util/LinkedList" "size" "I") ∈ lw_all := lw_g (lw_at lw_m1 83 rfl) rfl
theorem q202 : (Jvm.Cond.fieldLink "java/util/LinkedList$ListItr" (13 : Nat) "java/util/LinkedList" "modCount" "I") ∈ lw_all := lw_g (lw_at lw_m1 87 rfl) rfl
theorem q690 : (Jvm.Cond.selects "java/util/LinkedList$ListItr" ({ cls := "java/lang/Object", name := "getClass", desc := "()Ljava/lang/Class;" } : Jvm.MethodName) ({ cls := "java/lang/Object", name := "getClass", desc := "()Ljava/lang/Class;" } : Jvm.MethodName)) ∈ lw_all := lw_g (lw_at lw_m3 95 rfl) rfl
theorem q1288 : (Jvm.Cond.instantiable "java/util/LinkedList$ListItr" (5 : Nat)) ∈ lw_all := lw_g (lw_at lw_m5 213 rfl) rfl
theorem q1290 : (Jvm.Cond.instanceMethod ({ cls := "java/util/LinkedList$ListItr", name := "<init>", desc := "(Ljava/util/LinkedList;I)V" } : Jvm.MethodName)) ∈ lw_all := lw_g (lw_at lw_m5 215 rfl) rfl
theorem q1291 : (Jvm.Cond.code ({ cls := "java/util/LinkedList$ListItr", name := "<init>", desc := "(Ljava/util/LinkedList;I)V" } : Jvm.MethodName) prog_60_method_1_code (3 : Nat) (Option.none : Option Jvm.ClassFile.FieldType)) ∈ lw_all := lw_g (lw_at lw_m5 216 rfl) rfl
theorem q1292 : (Jvm.Cond.methodLink "java/util/LinkedList$ListItr" (7 : Nat) ({ cls := "java/lang/Object", name := "<init>", desc := "()V" } : Jvm.MethodName)) ∈ lw_all := lw_g (lw_at lw_m5 217 rfl) rfl
theorem q1293 : (Jvm.Cond.methodLink "java/util/LinkedList$ListItr" (25 : Nat) ({ cls := "java/util/LinkedList", name := "node", desc := "(I)Ljava/util/LinkedList$Node;" } : Jvm.MethodName)) ∈ lw_all := lw_g (lw_at lw_m5 218 rfl) rfl
theorem q1297 : (Jvm.Cond.fieldLink "java/util/LinkedList$ListItr" (46 : Nat) "java/util/LinkedList$ListItr" "lastReturned" "Ljava/util/LinkedList$Node;") ∈ lw_all := lw_g (lw_at lw_m5 222 rfl) rfl
theorem q1298 : (Jvm.Cond.fieldLink "java/util/LinkedList$ListItr" (29 : Nat) "java/util/LinkedList$ListItr" "next" "Ljava/util/LinkedList$Node;") ∈ lw_all := lw_g (lw_at lw_m5 223 rfl) rfl
theorem q1299 : (Jvm.Cond.fieldLink "java/util/LinkedList$ListItr" (33 : Nat) "java/util/LinkedList$ListItr" "nextIndex" "I") ∈ lw_all := lw_g (lw_at lw_m5 224 rfl) rfl
theorem q1300 : (Jvm.Cond.fieldLink "java/util/LinkedList$ListItr" (19 : Nat) "java/util/LinkedList$ListItr" "expectedModCount" "I") ∈ lw_all := lw_g (lw_at lw_m5 225 rfl) rfl
theorem q1301 : (Jvm.Cond.fieldLink "java/util/LinkedList$ListItr" (1 : Nat) "java/util/LinkedList$ListItr" "this$0" "Ljava/util/LinkedList;") ∈ lw_all := lw_g (lw_at lw_m5 226 rfl) rfl
theorem q1302 : (Jvm.Cond.lays "java/util/LinkedList$ListItr" "java/util/LinkedList$ListItr" "lastReturned" "Ljava/util/LinkedList$Node;") ∈ lw_all := lw_g (lw_at lw_m5 227 rfl) rfl
theorem q1303 : (Jvm.Cond.soleField "java/util/LinkedList$ListItr" "lastReturned") ∈ lw_all := lw_g (lw_at lw_m5 228 rfl) rfl
theorem q1304 : (Jvm.Cond.lays "java/util/LinkedList$ListItr" "java/util/LinkedList$ListItr" "next" "Ljava/util/LinkedList$Node;") ∈ lw_all := lw_g (lw_at lw_m5 229 rfl) rfl
theorem q1305 : (Jvm.Cond.soleField "java/util/LinkedList$ListItr" "next") ∈ lw_all := lw_g (lw_at lw_m5 230 rfl) rfl
theorem q1306 : (Jvm.Cond.lays "java/util/LinkedList$ListItr" "java/util/LinkedList$ListItr" "nextIndex" "I") ∈ lw_all := lw_g (lw_at lw_m5 231 rfl) rfl
theorem q1307 : (Jvm.Cond.soleField "java/util/LinkedList$ListItr" "nextIndex") ∈ lw_all := lw_g (lw_at lw_m5 232 rfl) rfl
theorem q1308 : (Jvm.Cond.lays "java/util/LinkedList$ListItr" "java/util/LinkedList$ListItr" "expectedModCount" "I") ∈ lw_all := lw_g (lw_at lw_m5 233 rfl) rfl
theorem q1309 : (Jvm.Cond.soleField "java/util/LinkedList$ListItr" "expectedModCount") ∈ lw_all := lw_g (lw_at lw_m5 234 rfl) rfl
theorem q1310 : (Jvm.Cond.laysFinal "java/util/LinkedList$ListItr" "java/util/LinkedList$ListItr" "this$0" "Ljava/util/LinkedList;") ∈ lw_all := lw_g (lw_at lw_m5 235 rfl) rfl
theorem q1311 : (Jvm.Cond.soleField "java/util/LinkedList$ListItr" "this$0") ∈ lw_all := lw_g (lw_at lw_m5 236 rfl) rfl
theorem q1312 : (Jvm.Cond.superclass "java/util/LinkedList$ListItr" "java/lang/Object") ∈ lw_all := lw_g (lw_at lw_m5 237 rfl) rfl
theorem q1328 : (Jvm.Cond.castable "java/util/LinkedList$ListItr" "java/util/Iterator") ∈ lw_tbl := lw_at lw_m6 13 rfl
theorem q1329 : (Jvm.Cond.selects "java/util/LinkedList$ListItr" ({ cls := "java/util/Iterator", name := "hasNext", desc := "()Z" } : Jvm.MethodName) ({ cls := "java/util/LinkedList$ListItr", name := "hasNext", desc := "()Z" } : Jvm.MethodName)) ∈ lw_all := lw_g (lw_at lw_m6 14 rfl) rfl
theorem q1330 : (Jvm.Cond.unhidden "java/util/LinkedList$ListItr" "hasNext" "()Z") ∈ lw_tbl := lw_at lw_m6 15 rfl
theorem q1331 : (Jvm.Cond.instanceMethod ({ cls := "java/util/LinkedList$ListItr", name := "hasNext", desc := "()Z" } : Jvm.MethodName)) ∈ lw_all := lw_g (lw_at lw_m6 16 rfl) rfl
theorem q1332 : (Jvm.Cond.publicMethod ({ cls := "java/util/LinkedList$ListItr", name := "hasNext", desc := "()Z" } : Jvm.MethodName)) ∈ lw_tbl := lw_at lw_m6 17 rfl
theorem q1333 : (Jvm.Cond.code ({ cls := "java/util/LinkedList$ListItr", name := "hasNext", desc := "()Z" } : Jvm.MethodName) prog_60_method_2_code (1 : Nat) (Option.some Jvm.ClassFile.FieldType.boolean)) ∈ lw_all := lw_g (lw_at lw_m6 18 rfl) rfl
theorem q1415 : (Jvm.Cond.selects "java/util/LinkedList$ListItr" ({ cls := "java/util/Iterator", name := "next", desc := "()Ljava/lang/Object;" } : Jvm.MethodName) ({ cls := "java/util/LinkedList$ListItr", name := "next", desc := "()Ljava/lang/Object;" } : Jvm.MethodName)) ∈ lw_all := lw_g (lw_at lw_m6 100 rfl) rfl
theorem q1416 : (Jvm.Cond.unhidden "java/util/LinkedList$ListItr" "next" "()Ljava/lang/Object;") ∈ lw_tbl := lw_at lw_m6 101 rfl
theorem q1417 : (Jvm.Cond.instanceMethod ({ cls := "java/util/LinkedList$ListItr", name := "next", desc := "()Ljava/lang/Object;" } : Jvm.MethodName)) ∈ lw_all := lw_g (lw_at lw_m6 102 rfl) rfl
theorem q1418 : (Jvm.Cond.publicMethod ({ cls := "java/util/LinkedList$ListItr", name := "next", desc := "()Ljava/lang/Object;" } : Jvm.MethodName)) ∈ lw_tbl := lw_at lw_m6 103 rfl
theorem q1419 : (Jvm.Cond.code ({ cls := "java/util/LinkedList$ListItr", name := "next", desc := "()Ljava/lang/Object;" } : Jvm.MethodName) prog_60_method_3_code (1 : Nat) (Option.some (Jvm.ClassFile.FieldType.object "java/lang/Object"))) ∈ lw_all := lw_g (lw_at lw_m6 104 rfl) rfl
theorem q1420 : (Jvm.Cond.methodLink "java/util/LinkedList$ListItr" (36 : Nat) ({ cls := "java/util/LinkedList$ListItr", name := "checkForComodification", desc := "()V" } : Jvm.MethodName)) ∈ lw_all := lw_g (lw_at lw_m6 105 rfl) rfl
theorem q1421 : (Jvm.Cond.instanceMethod ({ cls := "java/util/LinkedList$ListItr", name := "checkForComodification", desc := "()V" } : Jvm.MethodName)) ∈ lw_all := lw_g (lw_at lw_m6 106 rfl) rfl
theorem q1422 : (Jvm.Cond.selects "java/util/LinkedList$ListItr" ({ cls := "java/util/LinkedList$ListItr", name := "checkForComodification", desc := "()V" } : Jvm.MethodName) ({ cls := "java/util/LinkedList$ListItr", name := "checkForComodification", desc := "()V" } : Jvm.MethodName)) ∈ lw_all := lw_g (lw_at lw_m6 107 rfl) rfl
theorem q1423 : (Jvm.Cond.code ({ cls := "java/util/LinkedList$ListItr", name := "checkForComodification", desc := "()V" } : Jvm.MethodName) prog_60_method_12_code (1 : Nat) (Option.none : Option Jvm.ClassFile.FieldType)) ∈ lw_all := lw_g (lw_at lw_m6 108 rfl) rfl
theorem q1424 : (Jvm.Cond.methodLink "java/util/LinkedList$ListItr" (39 : Nat) ({ cls := "java/util/LinkedList$ListItr", name := "hasNext", desc := "()Z" } : Jvm.MethodName)) ∈ lw_all := lw_g (lw_at lw_m6 109 rfl) rfl
theorem q1425 : (Jvm.Cond.classLink "java/util/LinkedList$ListItr" (43 : Nat) "java/util/NoSuchElementException") ∈ lw_all := lw_g (lw_at lw_m6 110 rfl) rfl
theorem q1426 : (Jvm.Cond.methodLink "java/util/LinkedList$ListItr" (45 : Nat) ({ cls := "java/util/NoSuchElementException", name := "<init>", desc := "()V" } : Jvm.MethodName)) ∈ lw_all := lw_g (lw_at lw_m6 111 rfl) rfl
theorem q1475 : (Jvm.Cond.fieldLink "java/util/LinkedList$ListItr" (52 : Nat) "java/util/LinkedList$Node" "item" "Ljava/lang/Object;") ∈ lw_all := lw_g (lw_at lw_m6 160 rfl) rfl
theorem q1478 : (Jvm.Cond.fieldLink "java/util/LinkedList$ListItr" (49 : Nat) "java/util/LinkedList$Node" "next" "Ljava/util/LinkedList$Node;") ∈ lw_all := lw_g (lw_at lw_m6 163 rfl) rfl
theorem q1795 : (Jvm.Cond.selects "java/util/LinkedList$ListItr" ({ cls := "java/util/Iterator", name := "remove", desc := "()V" } : Jvm.MethodName) ({ cls := "java/util/LinkedList$ListItr", name := "remove", desc := "()V" } : Jvm.MethodName)) ∈ lw_all := lw_g (lw_at lw_m8 0 rfl) rfl
theorem q1796 : (Jvm.Cond.unhidden "java/util/LinkedList$ListItr" "remove" "()V") ∈ lw_tbl := lw_at lw_m8 1 rfl
theorem q1797 : (Jvm.Cond.instanceMethod ({ cls := "java/util/LinkedList$ListItr", name := "remove", desc := "()V" } : Jvm.MethodName)) ∈ lw_all := lw_g (lw_at lw_m8 2 rfl) rfl
theorem q1798 : (Jvm.Cond.publicMethod ({ cls := "java/util/LinkedList$ListItr", name := "remove", desc := "()V" } : Jvm.MethodName)) ∈ lw_tbl := lw_at lw_m8 3 rfl
theorem q1799 : (Jvm.Cond.code ({ cls := "java/util/LinkedList$ListItr", name := "remove", desc := "()V" } : Jvm.MethodName) prog_60_method_8_code (2 : Nat) (Option.none : Option Jvm.ClassFile.FieldType)) ∈ lw_all := lw_g (lw_at lw_m8 4 rfl) rfl
theorem q1800 : (Jvm.Cond.classLink "java/util/LinkedList$ListItr" (65 : Nat) "java/lang/IllegalStateException") ∈ lw_all := lw_g (lw_at lw_m8 5 rfl) rfl
theorem q1801 : (Jvm.Cond.methodLink "java/util/LinkedList$ListItr" (67 : Nat) ({ cls := "java/lang/IllegalStateException", name := "<init>", desc := "()V" } : Jvm.MethodName)) ∈ lw_all := lw_g (lw_at lw_m8 6 rfl) rfl
theorem q1802 : (Jvm.Cond.methodLink "java/util/LinkedList$ListItr" (68 : Nat) ({ cls := "java/util/LinkedList", name := "unlink", desc := "(Ljava/util/LinkedList$Node;)Ljava/lang/Object;" } : Jvm.MethodName)) ∈ lw_all := lw_g (lw_at lw_m8 7 rfl) rfl
theorem q2845 : (Jvm.Cond.selects "java/util/LinkedList$ListItr" ({ cls := "java/util/LinkedList$ListItr", name := "hasNext", desc := "()Z" } : Jvm.MethodName) ({ cls := "java/util/LinkedList$ListItr", name := "hasNext", desc := "()Z" } : Jvm.MethodName)) ∈ lw_all := lw_g (lw_at lw_m12 90 rfl) rfl
theorem q2871 : (Jvm.Cond.castable "java/util/LinkedList$ListItr" "java/lang/Object") ∈ lw_tbl := lw_at lw_m12 116 rfl
theorem in_J29 : ∀ w ∈ wsJ290, w ∈ lw_all := lw_in wsJ290 [1302, 1304, 1306, 1308, 1310] (by decide +kernel) (by decide +kernel)
/-! java/util/LinkedList -/
set_option maxRecDepth 100000
def RJ3 : String := "java/util/LinkedList"
def TJ3 : u_T := fun k => match k with
  | 0 => ("java/util/AbstractList", "modCount", "I", false)
  | 1 => ("java/util/LinkedList", "size", "I", false)
  | 2 => ("java/util/LinkedList", "first", "Ljava/util/LinkedList$Node;", false)
  | _ => ("java/util/LinkedList", "last", "Ljava/util/LinkedList$Node;", false)
def tyJ3 : Nat → FieldType := fun k => match k with
  | 0 => .int
  | 1 => .int
  | 2 => .object "java/util/LinkedList$Node"
  | _ => .object "java/util/LinkedList$Node"
abbrev wsJ30 : List Cond := u_ws RJ3 TJ3 4
theorem nmJ3 : ∀ a, a < 4 → ∀ b, b < 4 → a ≠ b → (TJ3 a).2.1 ≠ (TJ3 b).2.1 := by decide +kernel
theorem tyJ3_ok : ∀ k, k < 4 → parseFieldDescriptor (TJ3 k).2.2.1 = some (tyJ3 k) := by decide +kernel
abbrev cJ3_init : ByteArray := prog_59_method_1_code
def yJ3_init : MethodName := ⟨RJ3, "<init>", "()V"⟩
def dkwJ3_init_0 : List UInt8 := [42, 183, 0, 1, 42, 3, 181, 0, 7, 177]
abbrev dktJ3_init_0 : List UInt8 := dkwJ3_init_0 ++ []
theorem dksJ3_init_0 : cJ3_init.data.toList.drop 0 = dktJ3_init_0 := by decide +kernel
theorem dJ3_init_0 : decode cJ3_init 0 = .ok (.aload_n 0, 1) := dk_42 (dk_at dksJ3_init_0 0 rfl rfl)
theorem dJ3_init_1 : decode cJ3_init 1 = .ok (.invokespecial 1, 3) := dk_183 0 1 (dk_at dksJ3_init_0 1 rfl rfl)
theorem dJ3_init_4 : decode cJ3_init 4 = .ok (.aload_n 0, 1) := dk_42 (dk_at dksJ3_init_0 4 rfl rfl)
theorem dJ3_init_5 : decode cJ3_init 5 = .ok (.iconst 0, 1) := dk_3 (dk_at dksJ3_init_0 5 rfl rfl)
theorem dJ3_init_6 : decode cJ3_init 6 = .ok (.putfield 7, 3) := dk_181 0 7 (dk_at dksJ3_init_0 6 rfl rfl)
theorem dJ3_init_9 : decode cJ3_init 9 = .ok (.return_, 1) := dk_177 (dk_at dksJ3_init_0 9 rfl rfl)
abbrev cJ3_size : ByteArray := prog_59_method_16_code
def yJ3_size : MethodName := ⟨RJ3, "size", "()I"⟩
theorem dJ3_size_0 : decode cJ3_size 0 = .ok (.aload_n 0, 1) := by decide +kernel
theorem dJ3_size_1 : decode cJ3_size 1 = .ok (.getfield 7, 3) := by decide +kernel
theorem dJ3_size_4 : decode cJ3_size 4 = .ok (.ireturn, 1) := by decide +kernel
abbrev cJ3_contains : ByteArray := prog_59_method_15_code
def yJ3_contains : MethodName := ⟨RJ3, "contains", "(Ljava/lang/Object;)Z"⟩
def dkwJ3_contains_0 : List UInt8 := [42, 43, 182, 0, 60, 155, 0, 7, 4, 167, 0, 4, 3, 172]
abbrev dktJ3_contains_0 : List UInt8 := dkwJ3_contains_0 ++ []
theorem dksJ3_contains_0 : cJ3_contains.data.toList.drop 0 = dktJ3_contains_0 := by decide +kernel
theorem dJ3_contains_0 : decode cJ3_contains 0 = .ok (.aload_n 0, 1) := dk_42 (dk_at dksJ3_contains_0 0 rfl rfl)
theorem dJ3_contains_1 : decode cJ3_contains 1 = .ok (.aload_n 1, 1) := dk_43 (dk_at dksJ3_contains_0 1 rfl rfl)
theorem dJ3_contains_2 : decode cJ3_contains 2 = .ok (.invokevirtual 60, 3) := dk_182 0 60 (dk_at dksJ3_contains_0 2 rfl rfl)
theorem dJ3_contains_5 : decode cJ3_contains 5 = .ok (.ifCond .lt 7, 3) := dk_155 0 7 (dk_at dksJ3_contains_0 5 rfl rfl)
theorem dJ3_contains_8 : decode cJ3_contains 8 = .ok (.iconst 1, 1) := dk_4 (dk_at dksJ3_contains_0 8 rfl rfl)
theorem dJ3_contains_9 : decode cJ3_contains 9 = .ok (.goto 4, 3) := dk_167 0 4 (dk_at dksJ3_contains_0 9 rfl rfl)
theorem dJ3_contains_12 : decode cJ3_contains 12 = .ok (.iconst 0, 1) := dk_3 (dk_at dksJ3_contains_0 12 rfl rfl)
theorem dJ3_contains_13 : decode cJ3_contains 13 = .ok (.ireturn, 1) := dk_172 (dk_at dksJ3_contains_0 13 rfl rfl)
abbrev cJ3_indexOf : ByteArray := prog_59_method_32_code
def yJ3_indexOf : MethodName := ⟨RJ3, "indexOf", "(Ljava/lang/Object;)I"⟩
def dkwJ3_indexOf_3 : List UInt8 := [172]
abbrev dktJ3_indexOf_3 : List UInt8 := dkwJ3_indexOf_3 ++ []
def dkwJ3_indexOf_2 : List UInt8 := [45, 180, 0, 39, 182, 0, 67, 153, 0, 5, 28, 172, 132, 2, 1, 45, 180, 0, 36, 78, 167, 255, 231, 2]
abbrev dktJ3_indexOf_2 : List UInt8 := dkwJ3_indexOf_2 ++ dktJ3_indexOf_3
def dkwJ3_indexOf_1 : List UInt8 := [132, 2, 1, 45, 180, 0, 36, 78, 167, 255, 235, 167, 0, 36, 42, 180, 0, 18, 78, 45, 198, 0, 27, 43]
abbrev dktJ3_indexOf_1 : List UInt8 := dkwJ3_indexOf_1 ++ dktJ3_indexOf_2
def dkwJ3_indexOf_0 : List UInt8 := [3, 61, 43, 199, 0, 35, 42, 180, 0, 18, 78, 45, 198, 0, 23, 45, 180, 0, 39, 199, 0, 5, 28, 172]
abbrev dktJ3_indexOf_0 : List UInt8 := dkwJ3_indexOf_0 ++ dktJ3_indexOf_1
theorem dksJ3_indexOf_0 : cJ3_indexOf.data.toList.drop 0 = dktJ3_indexOf_0 := by decide +kernel
theorem dksJ3_indexOf_1 : cJ3_indexOf.data.toList.drop 24 = dktJ3_indexOf_1 := dk_seg dksJ3_indexOf_0 24 rfl rfl
theorem dksJ3_indexOf_2 : cJ3_indexOf.data.toList.drop 48 = dktJ3_indexOf_2 := dk_seg dksJ3_indexOf_1 24 rfl rfl
theorem dksJ3_indexOf_3 : cJ3_indexOf.data.toList.drop 72 = dktJ3_indexOf_3 := dk_seg dksJ3_indexOf_2 24 rfl rfl
theorem dJ3_indexOf_0 : decode cJ3_indexOf 0 = .ok (.iconst 0, 1) := dk_3 (dk_at dksJ3_indexOf_0 0 rfl rfl)
theorem dJ3_indexOf_1 : decode cJ3_indexOf 1 = .ok (.istore_n 2, 1) := dk_61 (dk_at dksJ3_indexOf_0 1 rfl rfl)
theorem dJ3_indexOf_2 : decode cJ3_indexOf 2 = .ok (.aload_n 1, 1) := dk_43 (dk_at dksJ3_indexOf_0 2 rfl rfl)
theorem dJ3_indexOf_3 : decode cJ3_indexOf 3 = .ok (.ifnonnull 35, 3) := dk_199 0 35 (dk_at dksJ3_indexOf_0 3 rfl rfl)
theorem dJ3_indexOf_6 : decode cJ3_indexOf 6 = .ok (.aload_n 0, 1) := dk_42 (dk_at dksJ3_indexOf_0 6 rfl rfl)
theorem dJ3_indexOf_7 : decode cJ3_indexOf 7 = .ok (.getfield 18, 3) := dk_180 0 18 (dk_at dksJ3_indexOf_0 7 rfl rfl)
theorem dJ3_indexOf_10 : decode cJ3_indexOf 10 = .ok (.astore_n 3, 1) := dk_78 (dk_at dksJ3_indexOf_0 10 rfl rfl)
theorem dJ3_indexOf_11 : decode cJ3_indexOf 11 = .ok (.aload_n 3, 1) := dk_45 (dk_at dksJ3_indexOf_0 11 rfl rfl)
theorem dJ3_indexOf_12 : decode cJ3_indexOf 12 = .ok (.ifnull 23, 3) := dk_198 0 23 (dk_at dksJ3_indexOf_0 12 rfl rfl)
theorem dJ3_indexOf_15 : decode cJ3_indexOf 15 = .ok (.aload_n 3, 1) := dk_45 (dk_at dksJ3_indexOf_0 15 rfl rfl)
theorem dJ3_indexOf_16 : decode cJ3_indexOf 16 = .ok (.getfield 39, 3) := dk_180 0 39 (dk_at dksJ3_indexOf_0 16 rfl rfl)
theorem dJ3_indexOf_19 : decode cJ3_indexOf 19 = .ok (.ifnonnull 5, 3) := dk_199 0 5 (dk_at dksJ3_indexOf_0 19 rfl rfl)
theorem dJ3_indexOf_22 : decode cJ3_indexOf 22 = .ok (.iload_n 2, 1) := dk_28 (dk_at dksJ3_indexOf_0 22 rfl rfl)
theorem dJ3_indexOf_23 : decode cJ3_indexOf 23 = .ok (.ireturn, 1) := dk_172 (dk_at dksJ3_indexOf_0 23 rfl rfl)
theorem dJ3_indexOf_24 : decode cJ3_indexOf 24 = .ok (.iinc 2 1, 3) := dk_132 2 1 (dk_at dksJ3_indexOf_1 0 rfl rfl)
theorem dJ3_indexOf_27 : decode cJ3_indexOf 27 = .ok (.aload_n 3, 1) := dk_45 (dk_at dksJ3_indexOf_1 3 rfl rfl)
theorem dJ3_indexOf_28 : decode cJ3_indexOf 28 = .ok (.getfield 36, 3) := dk_180 0 36 (dk_at dksJ3_indexOf_1 4 rfl rfl)
theorem dJ3_indexOf_31 : decode cJ3_indexOf 31 = .ok (.astore_n 3, 1) := dk_78 (dk_at dksJ3_indexOf_1 7 rfl rfl)
theorem dJ3_indexOf_32 : decode cJ3_indexOf 32 = .ok (.goto (-21), 3) := dk_167 255 235 (dk_at dksJ3_indexOf_1 8 rfl rfl)
theorem dJ3_indexOf_35 : decode cJ3_indexOf 35 = .ok (.goto 36, 3) := dk_167 0 36 (dk_at dksJ3_indexOf_1 11 rfl rfl)
theorem dJ3_indexOf_38 : decode cJ3_indexOf 38 = .ok (.aload_n 0, 1) := dk_42 (dk_at dksJ3_indexOf_1 14 rfl rfl)
theorem dJ3_indexOf_39 : decode cJ3_indexOf 39 = .ok (.getfield 18, 3) := dk_180 0 18 (dk_at dksJ3_indexOf_1 15 rfl rfl)
theorem dJ3_indexOf_42 : decode cJ3_indexOf 42 = .ok (.astore_n 3, 1) := dk_78 (dk_at dksJ3_indexOf_1 18 rfl rfl)
theorem dJ3_indexOf_43 : decode cJ3_indexOf 43 = .ok (.aload_n 3, 1) := dk_45 (dk_at dksJ3_indexOf_1 19 rfl rfl)
theorem dJ3_indexOf_44 : decode cJ3_indexOf 44 = .ok (.ifnull 27, 3) := dk_198 0 27 (dk_at dksJ3_indexOf_1 20 rfl rfl)
theorem dJ3_indexOf_47 : decode cJ3_indexOf 47 = .ok (.aload_n 1, 1) := dk_43 (dk_at dksJ3_indexOf_1 23 rfl rfl)
theorem dJ3_indexOf_48 : decode cJ3_indexOf 48 = .ok (.aload_n 3, 1) := dk_45 (dk_at dksJ3_indexOf_2 0 rfl rfl)
theorem dJ3_indexOf_49 : decode cJ3_indexOf 49 = .ok (.getfield 39, 3) := dk_180 0 39 (dk_at dksJ3_indexOf_2 1 rfl rfl)
theorem dJ3_indexOf_52 : decode cJ3_indexOf 52 = .ok (.invokevirtual 67, 3) := dk_182 0 67 (dk_at dksJ3_indexOf_2 4 rfl rfl)
theorem dJ3_indexOf_55 : decode cJ3_indexOf 55 = .ok (.ifCond .eq 5, 3) := dk_153 0 5 (dk_at dksJ3_indexOf_2 7 rfl rfl)
theorem dJ3_indexOf_58 : decode cJ3_indexOf 58 = .ok (.iload_n 2, 1) := dk_28 (dk_at dksJ3_indexOf_2 10 rfl rfl)
theorem dJ3_indexOf_59 : decode cJ3_indexOf 59 = .ok (.ireturn, 1) := dk_172 (dk_at dksJ3_indexOf_2 11 rfl rfl)
theorem dJ3_indexOf_60 : decode cJ3_indexOf 60 = .ok (.iinc 2 1, 3) := dk_132 2 1 (dk_at dksJ3_indexOf_2 12 rfl rfl)
theorem dJ3_indexOf_63 : decode cJ3_indexOf 63 = .ok (.aload_n 3, 1) := dk_45 (dk_at dksJ3_indexOf_2 15 rfl rfl)
theorem dJ3_indexOf_64 : decode cJ3_indexOf 64 = .ok (.getfield 36, 3) := dk_180 0 36 (dk_at dksJ3_indexOf_2 16 rfl rfl)
theorem dJ3_indexOf_67 : decode cJ3_indexOf 67 = .ok (.astore_n 3, 1) := dk_78 (dk_at dksJ3_indexOf_2 19 rfl rfl)
theorem dJ3_indexOf_68 : decode cJ3_indexOf 68 = .ok (.goto (-25), 3) := dk_167 255 231 (dk_at dksJ3_indexOf_2 20 rfl rfl)
theorem dJ3_indexOf_71 : decode cJ3_indexOf 71 = .ok (.iconst (-1), 1) := dk_2 (dk_at dksJ3_indexOf_2 23 rfl rfl)
theorem dJ3_indexOf_72 : decode cJ3_indexOf 72 = .ok (.ireturn, 1) := dk_172 (dk_at dksJ3_indexOf_3 0 rfl rfl)
abbrev cJ3_listIterator : ByteArray := prog_59_method_49_code
def yJ3_listIterator : MethodName := ⟨RJ3, "listIterator", "(I)Ljava/util/ListIterator;"⟩
def dkwJ3_listIterator_0 : List UInt8 := [42, 27, 182, 0, 76, 187, 0, 150, 89, 42, 27, 183, 0, 152, 176]
abbrev dktJ3_listIterator_0 : List UInt8 := dkwJ3_listIterator_0 ++ []
theorem dksJ3_listIterator_0 : cJ3_listIterator.data.toList.drop 0 = dktJ3_listIterator_0 := by decide +kernel
theorem dJ3_listIterator_0 : decode cJ3_listIterator 0 = .ok (.aload_n 0, 1) := dk_42 (dk_at dksJ3_listIterator_0 0 rfl rfl)
theorem dJ3_listIterator_1 : decode cJ3_listIterator 1 = .ok (.iload_n 1, 1) := dk_27 (dk_at dksJ3_listIterator_0 1 rfl rfl)
theorem dJ3_listIterator_2 : decode cJ3_listIterator 2 = .ok (.invokevirtual 76, 3) := dk_182 0 76 (dk_at dksJ3_listIterator_0 2 rfl rfl)
theorem dJ3_listIterator_5 : decode cJ3_listIterator 5 = .ok (.new 150, 3) := dk_187 0 150 (dk_at dksJ3_listIterator_0 5 rfl rfl)
theorem dJ3_listIterator_8 : decode cJ3_listIterator 8 = .ok (.dup, 1) := dk_89 (dk_at dksJ3_listIterator_0 8 rfl rfl)
theorem dJ3_listIterator_9 : decode cJ3_listIterator 9 = .ok (.aload_n 0, 1) := dk_42 (dk_at dksJ3_listIterator_0 9 rfl rfl)
theorem dJ3_listIterator_10 : decode cJ3_listIterator 10 = .ok (.iload_n 1, 1) := dk_27 (dk_at dksJ3_listIterator_0 10 rfl rfl)
theorem dJ3_listIterator_11 : decode cJ3_listIterator 11 = .ok (.invokespecial 152, 3) := dk_183 0 152 (dk_at dksJ3_listIterator_0 11 rfl rfl)
theorem dJ3_listIterator_14 : decode cJ3_listIterator 14 = .ok (.areturn, 1) := dk_176 (dk_at dksJ3_listIterator_0 14 rfl rfl)
abbrev cJ3_checkPositionIndex : ByteArray := prog_59_method_30_code
def yJ3_checkPositionIndex : MethodName := ⟨RJ3, "checkPositionIndex", "(I)V"⟩
def dkwJ3_checkPositionIndex_0 : List UInt8 := [42, 27, 182, 0, 128, 154, 0, 16, 187, 0, 119, 89, 42, 27, 182, 0, 121, 183, 0, 125, 191, 177]
abbrev dktJ3_checkPositionIndex_0 : List UInt8 := dkwJ3_checkPositionIndex_0 ++ []
theorem dksJ3_checkPositionIndex_0 : cJ3_checkPositionIndex.data.toList.drop 0 = dktJ3_checkPositionIndex_0 := by decide +kernel
theorem dJ3_checkPositionIndex_0 : decode cJ3_checkPositionIndex 0 = .ok (.aload_n 0, 1) := dk_42 (dk_at dksJ3_checkPositionIndex_0 0 rfl rfl)
theorem dJ3_checkPositionIndex_1 : decode cJ3_checkPositionIndex 1 = .ok (.iload_n 1, 1) := dk_27 (dk_at dksJ3_checkPositionIndex_0 1 rfl rfl)
theorem dJ3_checkPositionIndex_2 : decode cJ3_checkPositionIndex 2 = .ok (.invokevirtual 128, 3) := dk_182 0 128 (dk_at dksJ3_checkPositionIndex_0 2 rfl rfl)
theorem dJ3_checkPositionIndex_5 : decode cJ3_checkPositionIndex 5 = .ok (.ifCond .ne 16, 3) := dk_154 0 16 (dk_at dksJ3_checkPositionIndex_0 5 rfl rfl)
theorem dJ3_checkPositionIndex_8 : decode cJ3_checkPositionIndex 8 = .ok (.new 119, 3) := dk_187 0 119 (dk_at dksJ3_checkPositionIndex_0 8 rfl rfl)
theorem dJ3_checkPositionIndex_11 : decode cJ3_checkPositionIndex 11 = .ok (.dup, 1) := dk_89 (dk_at dksJ3_checkPositionIndex_0 11 rfl rfl)
theorem dJ3_checkPositionIndex_12 : decode cJ3_checkPositionIndex 12 = .ok (.aload_n 0, 1) := dk_42 (dk_at dksJ3_checkPositionIndex_0 12 rfl rfl)
theorem dJ3_checkPositionIndex_13 : decode cJ3_checkPositionIndex 13 = .ok (.iload_n 1, 1) := dk_27 (dk_at dksJ3_checkPositionIndex_0 13 rfl rfl)
theorem dJ3_checkPositionIndex_14 : decode cJ3_checkPositionIndex 14 = .ok (.invokevirtual 121, 3) := dk_182 0 121 (dk_at dksJ3_checkPositionIndex_0 14 rfl rfl)
theorem dJ3_checkPositionIndex_17 : decode cJ3_checkPositionIndex 17 = .ok (.invokespecial 125, 3) := dk_183 0 125 (dk_at dksJ3_checkPositionIndex_0 17 rfl rfl)
theorem dJ3_checkPositionIndex_20 : decode cJ3_checkPositionIndex 20 = .ok (.athrow, 1) := dk_191 (dk_at dksJ3_checkPositionIndex_0 20 rfl rfl)
theorem dJ3_checkPositionIndex_21 : decode cJ3_checkPositionIndex 21 = .ok (.return_, 1) := dk_177 (dk_at dksJ3_checkPositionIndex_0 21 rfl rfl)
abbrev cJ3_isPositionIndex : ByteArray := prog_59_method_27_code
def yJ3_isPositionIndex : MethodName := ⟨RJ3, "isPositionIndex", "(I)Z"⟩
def dkwJ3_isPositionIndex_0 : List UInt8 := [27, 155, 0, 15, 27, 42, 180, 0, 7, 163, 0, 7, 4, 167, 0, 4, 3, 172]
abbrev dktJ3_isPositionIndex_0 : List UInt8 := dkwJ3_isPositionIndex_0 ++ []
theorem dksJ3_isPositionIndex_0 : cJ3_isPositionIndex.data.toList.drop 0 = dktJ3_isPositionIndex_0 := by decide +kernel
theorem dJ3_isPositionIndex_0 : decode cJ3_isPositionIndex 0 = .ok (.iload_n 1, 1) := dk_27 (dk_at dksJ3_isPositionIndex_0 0 rfl rfl)
theorem dJ3_isPositionIndex_1 : decode cJ3_isPositionIndex 1 = .ok (.ifCond .lt 15, 3) := dk_155 0 15 (dk_at dksJ3_isPositionIndex_0 1 rfl rfl)
theorem dJ3_isPositionIndex_4 : decode cJ3_isPositionIndex 4 = .ok (.iload_n 1, 1) := dk_27 (dk_at dksJ3_isPositionIndex_0 4 rfl rfl)
theorem dJ3_isPositionIndex_5 : decode cJ3_isPositionIndex 5 = .ok (.aload_n 0, 1) := dk_42 (dk_at dksJ3_isPositionIndex_0 5 rfl rfl)
theorem dJ3_isPositionIndex_6 : decode cJ3_isPositionIndex 6 = .ok (.getfield 7, 3) := dk_180 0 7 (dk_at dksJ3_isPositionIndex_0 6 rfl rfl)
theorem dJ3_isPositionIndex_9 : decode cJ3_isPositionIndex 9 = .ok (.if_icmp .gt 7, 3) := dk_163 0 7 (dk_at dksJ3_isPositionIndex_0 9 rfl rfl)
theorem dJ3_isPositionIndex_12 : decode cJ3_isPositionIndex 12 = .ok (.iconst 1, 1) := dk_4 (dk_at dksJ3_isPositionIndex_0 12 rfl rfl)
theorem dJ3_isPositionIndex_13 : decode cJ3_isPositionIndex 13 = .ok (.goto 4, 3) := dk_167 0 4 (dk_at dksJ3_isPositionIndex_0 13 rfl rfl)
theorem dJ3_isPositionIndex_16 : decode cJ3_isPositionIndex 16 = .ok (.iconst 0, 1) := dk_3 (dk_at dksJ3_isPositionIndex_0 16 rfl rfl)
theorem dJ3_isPositionIndex_17 : decode cJ3_isPositionIndex 17 = .ok (.ireturn, 1) := dk_172 (dk_at dksJ3_isPositionIndex_0 17 rfl rfl)
abbrev cJ3_outOfBoundsMsg : ByteArray := prog_59_method_28_code
def yJ3_outOfBoundsMsg : MethodName := ⟨RJ3, "outOfBoundsMsg", "(I)Ljava/lang/String;"⟩
def dkwJ3_outOfBoundsMsg_1 : List UInt8 := [180, 0, 7, 182, 0, 106, 182, 0, 111, 176]
abbrev dktJ3_outOfBoundsMsg_1 : List UInt8 := dkwJ3_outOfBoundsMsg_1 ++ []
def dkwJ3_outOfBoundsMsg_0 : List UInt8 := [187, 0, 97, 89, 183, 0, 99, 18, 100, 182, 0, 102, 27, 182, 0, 106, 18, 109, 182, 0, 102, 42]
abbrev dktJ3_outOfBoundsMsg_0 : List UInt8 := dkwJ3_outOfBoundsMsg_0 ++ dktJ3_outOfBoundsMsg_1
theorem dksJ3_outOfBoundsMsg_0 : cJ3_outOfBoundsMsg.data.toList.drop 0 = dktJ3_outOfBoundsMsg_0 := by decide +kernel
theorem dksJ3_outOfBoundsMsg_1 : cJ3_outOfBoundsMsg.data.toList.drop 22 = dktJ3_outOfBoundsMsg_1 := dk_seg dksJ3_outOfBoundsMsg_0 22 rfl rfl
theorem dJ3_outOfBoundsMsg_0 : decode cJ3_outOfBoundsMsg 0 = .ok (.new 97, 3) := dk_187 0 97 (dk_at dksJ3_outOfBoundsMsg_0 0 rfl rfl)
theorem dJ3_outOfBoundsMsg_3 : decode cJ3_outOfBoundsMsg 3 = .ok (.dup, 1) := dk_89 (dk_at dksJ3_outOfBoundsMsg_0 3 rfl rfl)
theorem dJ3_outOfBoundsMsg_4 : decode cJ3_outOfBoundsMsg 4 = .ok (.invokespecial 99, 3) := dk_183 0 99 (dk_at dksJ3_outOfBoundsMsg_0 4 rfl rfl)
theorem dJ3_outOfBoundsMsg_7 : decode cJ3_outOfBoundsMsg 7 = .ok (.ldc 100, 2) := dk_18 100 (dk_at dksJ3_outOfBoundsMsg_0 7 rfl rfl)
theorem dJ3_outOfBoundsMsg_9 : decode cJ3_outOfBoundsMsg 9 = .ok (.invokevirtual 102, 3) := dk_182 0 102 (dk_at dksJ3_outOfBoundsMsg_0 9 rfl rfl)
theorem dJ3_outOfBoundsMsg_12 : decode cJ3_outOfBoundsMsg 12 = .ok (.iload_n 1, 1) := dk_27 (dk_at dksJ3_outOfBoundsMsg_0 12 rfl rfl)
theorem dJ3_outOfBoundsMsg_13 : decode cJ3_outOfBoundsMsg 13 = .ok (.invokevirtual 106, 3) := dk_182 0 106 (dk_at dksJ3_outOfBoundsMsg_0 13 rfl rfl)
theorem dJ3_outOfBoundsMsg_16 : decode cJ3_outOfBoundsMsg 16 = .ok (.ldc 109, 2) := dk_18 109 (dk_at dksJ3_outOfBoundsMsg_0 16 rfl rfl)
theorem dJ3_outOfBoundsMsg_18 : decode cJ3_outOfBoundsMsg 18 = .ok (.invokevirtual 102, 3) := dk_182 0 102 (dk_at dksJ3_outOfBoundsMsg_0 18 rfl rfl)
theorem dJ3_outOfBoundsMsg_21 : decode cJ3_outOfBoundsMsg 21 = .ok (.aload_n 0, 1) := dk_42 (dk_at dksJ3_outOfBoundsMsg_0 21 rfl rfl)
theorem dJ3_outOfBoundsMsg_22 : decode cJ3_outOfBoundsMsg 22 = .ok (.getfield 7, 3) := dk_180 0 7 (dk_at dksJ3_outOfBoundsMsg_1 0 rfl rfl)
theorem dJ3_outOfBoundsMsg_25 : decode cJ3_outOfBoundsMsg 25 = .ok (.invokevirtual 106, 3) := dk_182 0 106 (dk_at dksJ3_outOfBoundsMsg_1 3 rfl rfl)
theorem dJ3_outOfBoundsMsg_28 : decode cJ3_outOfBoundsMsg 28 = .ok (.invokevirtual 111, 3) := dk_182 0 111 (dk_at dksJ3_outOfBoundsMsg_1 6 rfl rfl)
theorem dJ3_outOfBoundsMsg_31 : decode cJ3_outOfBoundsMsg 31 = .ok (.areturn, 1) := dk_176 (dk_at dksJ3_outOfBoundsMsg_1 9 rfl rfl)
abbrev cJ3_node : ByteArray := prog_59_method_31_code
def yJ3_node : MethodName := ⟨RJ3, "node", "(I)Ljava/util/LinkedList$Node;"⟩
def dkwJ3_node_2 : List UInt8 := [29, 27, 164, 0, 14, 44, 180, 0, 30, 77, 132, 3, 255, 167, 255, 243, 44, 176]
abbrev dktJ3_node_2 : List UInt8 := dkwJ3_node_2 ++ []
def dkwJ3_node_1 : List UInt8 := [180, 0, 36, 77, 132, 3, 1, 167, 255, 243, 44, 176, 42, 180, 0, 27, 77, 42, 180, 0, 7, 4, 100, 62]
abbrev dktJ3_node_1 : List UInt8 := dkwJ3_node_1 ++ dktJ3_node_2
def dkwJ3_node_0 : List UInt8 := [27, 42, 180, 0, 7, 4, 122, 162, 0, 28, 42, 180, 0, 18, 77, 3, 62, 29, 27, 162, 0, 14, 44]
abbrev dktJ3_node_0 : List UInt8 := dkwJ3_node_0 ++ dktJ3_node_1
theorem dksJ3_node_0 : cJ3_node.data.toList.drop 0 = dktJ3_node_0 := by decide +kernel
theorem dksJ3_node_1 : cJ3_node.data.toList.drop 23 = dktJ3_node_1 := dk_seg dksJ3_node_0 23 rfl rfl
theorem dksJ3_node_2 : cJ3_node.data.toList.drop 47 = dktJ3_node_2 := dk_seg dksJ3_node_1 24 rfl rfl
theorem dJ3_node_0 : decode cJ3_node 0 = .ok (.iload_n 1, 1) := dk_27 (dk_at dksJ3_node_0 0 rfl rfl)
theorem dJ3_node_1 : decode cJ3_node 1 = .ok (.aload_n 0, 1) := dk_42 (dk_at dksJ3_node_0 1 rfl rfl)
theorem dJ3_node_2 : decode cJ3_node 2 = .ok (.getfield 7, 3) := dk_180 0 7 (dk_at dksJ3_node_0 2 rfl rfl)
theorem dJ3_node_5 : decode cJ3_node 5 = .ok (.iconst 1, 1) := dk_4 (dk_at dksJ3_node_0 5 rfl rfl)
theorem dJ3_node_6 : decode cJ3_node 6 = .ok (.ishr, 1) := dk_122 (dk_at dksJ3_node_0 6 rfl rfl)
theorem dJ3_node_7 : decode cJ3_node 7 = .ok (.if_icmp .ge 28, 3) := dk_162 0 28 (dk_at dksJ3_node_0 7 rfl rfl)
theorem dJ3_node_10 : decode cJ3_node 10 = .ok (.aload_n 0, 1) := dk_42 (dk_at dksJ3_node_0 10 rfl rfl)
theorem dJ3_node_11 : decode cJ3_node 11 = .ok (.getfield 18, 3) := dk_180 0 18 (dk_at dksJ3_node_0 11 rfl rfl)
theorem dJ3_node_14 : decode cJ3_node 14 = .ok (.astore_n 2, 1) := dk_77 (dk_at dksJ3_node_0 14 rfl rfl)
theorem dJ3_node_15 : decode cJ3_node 15 = .ok (.iconst 0, 1) := dk_3 (dk_at dksJ3_node_0 15 rfl rfl)
theorem dJ3_node_16 : decode cJ3_node 16 = .ok (.istore_n 3, 1) := dk_62 (dk_at dksJ3_node_0 16 rfl rfl)
theorem dJ3_node_17 : decode cJ3_node 17 = .ok (.iload_n 3, 1) := dk_29 (dk_at dksJ3_node_0 17 rfl rfl)
theorem dJ3_node_18 : decode cJ3_node 18 = .ok (.iload_n 1, 1) := dk_27 (dk_at dksJ3_node_0 18 rfl rfl)
theorem dJ3_node_19 : decode cJ3_node 19 = .ok (.if_icmp .ge 14, 3) := dk_162 0 14 (dk_at dksJ3_node_0 19 rfl rfl)
theorem dJ3_node_22 : decode cJ3_node 22 = .ok (.aload_n 2, 1) := dk_44 (dk_at dksJ3_node_0 22 rfl rfl)
theorem dJ3_node_23 : decode cJ3_node 23 = .ok (.getfield 36, 3) := dk_180 0 36 (dk_at dksJ3_node_1 0 rfl rfl)
theorem dJ3_node_26 : decode cJ3_node 26 = .ok (.astore_n 2, 1) := dk_77 (dk_at dksJ3_node_1 3 rfl rfl)
theorem dJ3_node_27 : decode cJ3_node 27 = .ok (.iinc 3 1, 3) := dk_132 3 1 (dk_at dksJ3_node_1 4 rfl rfl)
theorem dJ3_node_30 : decode cJ3_node 30 = .ok (.goto (-13), 3) := dk_167 255 243 (dk_at dksJ3_node_1 7 rfl rfl)
theorem dJ3_node_33 : decode cJ3_node 33 = .ok (.aload_n 2, 1) := dk_44 (dk_at dksJ3_node_1 10 rfl rfl)
theorem dJ3_node_34 : decode cJ3_node 34 = .ok (.areturn, 1) := dk_176 (dk_at dksJ3_node_1 11 rfl rfl)
theorem dJ3_node_35 : decode cJ3_node 35 = .ok (.aload_n 0, 1) := dk_42 (dk_at dksJ3_node_1 12 rfl rfl)
theorem dJ3_node_36 : decode cJ3_node 36 = .ok (.getfield 27, 3) := dk_180 0 27 (dk_at dksJ3_node_1 13 rfl rfl)
theorem dJ3_node_39 : decode cJ3_node 39 = .ok (.astore_n 2, 1) := dk_77 (dk_at dksJ3_node_1 16 rfl rfl)
theorem dJ3_node_40 : decode cJ3_node 40 = .ok (.aload_n 0, 1) := dk_42 (dk_at dksJ3_node_1 17 rfl rfl)
theorem dJ3_node_41 : decode cJ3_node 41 = .ok (.getfield 7, 3) := dk_180 0 7 (dk_at dksJ3_node_1 18 rfl rfl)
theorem dJ3_node_44 : decode cJ3_node 44 = .ok (.iconst 1, 1) := dk_4 (dk_at dksJ3_node_1 21 rfl rfl)
theorem dJ3_node_45 : decode cJ3_node 45 = .ok (.isub, 1) := dk_100 (dk_at dksJ3_node_1 22 rfl rfl)
theorem dJ3_node_46 : decode cJ3_node 46 = .ok (.istore_n 3, 1) := dk_62 (dk_at dksJ3_node_1 23 rfl rfl)
theorem dJ3_node_47 : decode cJ3_node 47 = .ok (.iload_n 3, 1) := dk_29 (dk_at dksJ3_node_2 0 rfl rfl)
theorem dJ3_node_48 : decode cJ3_node 48 = .ok (.iload_n 1, 1) := dk_27 (dk_at dksJ3_node_2 1 rfl rfl)
theorem dJ3_node_49 : decode cJ3_node 49 = .ok (.if_icmp .le 14, 3) := dk_164 0 14 (dk_at dksJ3_node_2 2 rfl rfl)
theorem dJ3_node_52 : decode cJ3_node 52 = .ok (.aload_n 2, 1) := dk_44 (dk_at dksJ3_node_2 5 rfl rfl)
theorem dJ3_node_53 : decode cJ3_node 53 = .ok (.getfield 30, 3) := dk_180 0 30 (dk_at dksJ3_node_2 6 rfl rfl)
theorem dJ3_node_56 : decode cJ3_node 56 = .ok (.astore_n 2, 1) := dk_77 (dk_at dksJ3_node_2 9 rfl rfl)
theorem dJ3_node_57 : decode cJ3_node 57 = .ok (.iinc 3 (-1), 3) := dk_132 3 255 (dk_at dksJ3_node_2 10 rfl rfl)
theorem dJ3_node_60 : decode cJ3_node 60 = .ok (.goto (-13), 3) := dk_167 255 243 (dk_at dksJ3_node_2 13 rfl rfl)
theorem dJ3_node_63 : decode cJ3_node 63 = .ok (.aload_n 2, 1) := dk_44 (dk_at dksJ3_node_2 16 rfl rfl)
theorem dJ3_node_64 : decode cJ3_node 64 = .ok (.areturn, 1) := dk_176 (dk_at dksJ3_node_2 17 rfl rfl)
abbrev cJ3_get : ByteArray := prog_59_method_22_code
def yJ3_get : MethodName := ⟨RJ3, "get", "(I)Ljava/lang/Object;"⟩
def dkwJ3_get_0 : List UInt8 := [42, 27, 182, 0, 90, 42, 27, 182, 0, 86, 180, 0, 39, 176]
abbrev dktJ3_get_0 : List UInt8 := dkwJ3_get_0 ++ []
theorem dksJ3_get_0 : cJ3_get.data.toList.drop 0 = dktJ3_get_0 := by decide +kernel
theorem dJ3_get_0 : decode cJ3_get 0 = .ok (.aload_n 0, 1) := dk_42 (dk_at dksJ3_get_0 0 rfl rfl)
theorem dJ3_get_1 : decode cJ3_get 1 = .ok (.iload_n 1, 1) := dk_27 (dk_at dksJ3_get_0 1 rfl rfl)
theorem dJ3_get_2 : decode cJ3_get 2 = .ok (.invokevirtual 90, 3) := dk_182 0 90 (dk_at dksJ3_get_0 2 rfl rfl)
theorem dJ3_get_5 : decode cJ3_get 5 = .ok (.aload_n 0, 1) := dk_42 (dk_at dksJ3_get_0 5 rfl rfl)
theorem dJ3_get_6 : decode cJ3_get 6 = .ok (.iload_n 1, 1) := dk_27 (dk_at dksJ3_get_0 6 rfl rfl)
theorem dJ3_get_7 : decode cJ3_get 7 = .ok (.invokevirtual 86, 3) := dk_182 0 86 (dk_at dksJ3_get_0 7 rfl rfl)
theorem dJ3_get_10 : decode cJ3_get 10 = .ok (.getfield 39, 3) := dk_180 0 39 (dk_at dksJ3_get_0 10 rfl rfl)
theorem dJ3_get_13 : decode cJ3_get 13 = .ok (.areturn, 1) := dk_176 (dk_at dksJ3_get_0 13 rfl rfl)
abbrev cJ3_checkElementIndex : ByteArray := prog_59_method_29_code
def yJ3_checkElementIndex : MethodName := ⟨RJ3, "checkElementIndex", "(I)V"⟩
def dkwJ3_checkElementIndex_0 : List UInt8 := [42, 27, 182, 0, 115, 154, 0, 16, 187, 0, 119, 89, 42, 27, 182, 0, 121, 183, 0, 125, 191, 177]
abbrev dktJ3_checkElementIndex_0 : List UInt8 := dkwJ3_checkElementIndex_0 ++ []
theorem dksJ3_checkElementIndex_0 : cJ3_checkElementIndex.data.toList.drop 0 = dktJ3_checkElementIndex_0 := by decide +kernel
theorem dJ3_checkElementIndex_0 : decode cJ3_checkElementIndex 0 = .ok (.aload_n 0, 1) := dk_42 (dk_at dksJ3_checkElementIndex_0 0 rfl rfl)
theorem dJ3_checkElementIndex_1 : decode cJ3_checkElementIndex 1 = .ok (.iload_n 1, 1) := dk_27 (dk_at dksJ3_checkElementIndex_0 1 rfl rfl)
theorem dJ3_checkElementIndex_2 : decode cJ3_checkElementIndex 2 = .ok (.invokevirtual 115, 3) := dk_182 0 115 (dk_at dksJ3_checkElementIndex_0 2 rfl rfl)
theorem dJ3_checkElementIndex_5 : decode cJ3_checkElementIndex 5 = .ok (.ifCond .ne 16, 3) := dk_154 0 16 (dk_at dksJ3_checkElementIndex_0 5 rfl rfl)
theorem dJ3_checkElementIndex_8 : decode cJ3_checkElementIndex 8 = .ok (.new 119, 3) := dk_187 0 119 (dk_at dksJ3_checkElementIndex_0 8 rfl rfl)
theorem dJ3_checkElementIndex_11 : decode cJ3_checkElementIndex 11 = .ok (.dup, 1) := dk_89 (dk_at dksJ3_checkElementIndex_0 11 rfl rfl)
theorem dJ3_checkElementIndex_12 : decode cJ3_checkElementIndex 12 = .ok (.aload_n 0, 1) := dk_42 (dk_at dksJ3_checkElementIndex_0 12 rfl rfl)
theorem dJ3_checkElementIndex_13 : decode cJ3_checkElementIndex 13 = .ok (.iload_n 1, 1) := dk_27 (dk_at dksJ3_checkElementIndex_0 13 rfl rfl)
theorem dJ3_checkElementIndex_14 : decode cJ3_checkElementIndex 14 = .ok (.invokevirtual 121, 3) := dk_182 0 121 (dk_at dksJ3_checkElementIndex_0 14 rfl rfl)
theorem dJ3_checkElementIndex_17 : decode cJ3_checkElementIndex 17 = .ok (.invokespecial 125, 3) := dk_183 0 125 (dk_at dksJ3_checkElementIndex_0 17 rfl rfl)
theorem dJ3_checkElementIndex_20 : decode cJ3_checkElementIndex 20 = .ok (.athrow, 1) := dk_191 (dk_at dksJ3_checkElementIndex_0 20 rfl rfl)
theorem dJ3_checkElementIndex_21 : decode cJ3_checkElementIndex 21 = .ok (.return_, 1) := dk_177 (dk_at dksJ3_checkElementIndex_0 21 rfl rfl)
abbrev cJ3_isElementIndex : ByteArray := prog_59_method_26_code
def yJ3_isElementIndex : MethodName := ⟨RJ3, "isElementIndex", "(I)Z"⟩
def dkwJ3_isElementIndex_0 : List UInt8 := [27, 155, 0, 15, 27, 42, 180, 0, 7, 162, 0, 7, 4, 167, 0, 4, 3, 172]
abbrev dktJ3_isElementIndex_0 : List UInt8 := dkwJ3_isElementIndex_0 ++ []
theorem dksJ3_isElementIndex_0 : cJ3_isElementIndex.data.toList.drop 0 = dktJ3_isElementIndex_0 := by decide +kernel
theorem dJ3_isElementIndex_0 : decode cJ3_isElementIndex 0 = .ok (.iload_n 1, 1) := dk_27 (dk_at dksJ3_isElementIndex_0 0 rfl rfl)
theorem dJ3_isElementIndex_1 : decode cJ3_isElementIndex 1 = .ok (.ifCond .lt 15, 3) := dk_155 0 15 (dk_at dksJ3_isElementIndex_0 1 rfl rfl)
theorem dJ3_isElementIndex_4 : decode cJ3_isElementIndex 4 = .ok (.iload_n 1, 1) := dk_27 (dk_at dksJ3_isElementIndex_0 4 rfl rfl)
theorem dJ3_isElementIndex_5 : decode cJ3_isElementIndex 5 = .ok (.aload_n 0, 1) := dk_42 (dk_at dksJ3_isElementIndex_0 5 rfl rfl)
theorem dJ3_isElementIndex_6 : decode cJ3_isElementIndex 6 = .ok (.getfield 7, 3) := dk_180 0 7 (dk_at dksJ3_isElementIndex_0 6 rfl rfl)
theorem dJ3_isElementIndex_9 : decode cJ3_isElementIndex 9 = .ok (.if_icmp .ge 7, 3) := dk_162 0 7 (dk_at dksJ3_isElementIndex_0 9 rfl rfl)
theorem dJ3_isElementIndex_12 : decode cJ3_isElementIndex 12 = .ok (.iconst 1, 1) := dk_4 (dk_at dksJ3_isElementIndex_0 12 rfl rfl)
theorem dJ3_isElementIndex_13 : decode cJ3_isElementIndex 13 = .ok (.goto 4, 3) := dk_167 0 4 (dk_at dksJ3_isElementIndex_0 13 rfl rfl)
theorem dJ3_isElementIndex_16 : decode cJ3_isElementIndex 16 = .ok (.iconst 0, 1) := dk_3 (dk_at dksJ3_isElementIndex_0 16 rfl rfl)
theorem dJ3_isElementIndex_17 : decode cJ3_isElementIndex 17 = .ok (.ireturn, 1) := dk_172 (dk_at dksJ3_isElementIndex_0 17 rfl rfl)
abbrev cJ3_add : ByteArray := prog_59_method_17_code
def yJ3_add : MethodName := ⟨RJ3, "add", "(Ljava/lang/Object;)Z"⟩
def dkwJ3_add_0 : List UInt8 := [42, 43, 182, 0, 57, 4, 172]
abbrev dktJ3_add_0 : List UInt8 := dkwJ3_add_0 ++ []
theorem dksJ3_add_0 : cJ3_add.data.toList.drop 0 = dktJ3_add_0 := by decide +kernel
theorem dJ3_add_0 : decode cJ3_add 0 = .ok (.aload_n 0, 1) := dk_42 (dk_at dksJ3_add_0 0 rfl rfl)
theorem dJ3_add_1 : decode cJ3_add 1 = .ok (.aload_n 1, 1) := dk_43 (dk_at dksJ3_add_0 1 rfl rfl)
theorem dJ3_add_2 : decode cJ3_add 2 = .ok (.invokevirtual 57, 3) := dk_182 0 57 (dk_at dksJ3_add_0 2 rfl rfl)
theorem dJ3_add_5 : decode cJ3_add 5 = .ok (.iconst 1, 1) := dk_4 (dk_at dksJ3_add_0 5 rfl rfl)
theorem dJ3_add_6 : decode cJ3_add 6 = .ok (.ireturn, 1) := dk_172 (dk_at dksJ3_add_0 6 rfl rfl)
abbrev cJ3_linkLast : ByteArray := prog_59_method_4_code
def yJ3_linkLast : MethodName := ⟨RJ3, "linkLast", "(Ljava/lang/Object;)V"⟩
def dkwJ3_linkLast_2 : List UInt8 := [181, 0, 7, 42, 89, 180, 0, 33, 4, 96, 181, 0, 33, 177]
abbrev dktJ3_linkLast_2 : List UInt8 := dkwJ3_linkLast_2 ++ []
def dkwJ3_linkLast_1 : List UInt8 := [199, 0, 11, 42, 45, 181, 0, 18, 167, 0, 8, 44, 45, 181, 0, 36, 42, 89, 180, 0, 7, 4, 96]
abbrev dktJ3_linkLast_1 : List UInt8 := dkwJ3_linkLast_1 ++ dktJ3_linkLast_2
def dkwJ3_linkLast_0 : List UInt8 := [42, 180, 0, 27, 77, 187, 0, 22, 89, 44, 43, 1, 183, 0, 24, 78, 42, 45, 181, 0, 27, 44]
abbrev dktJ3_linkLast_0 : List UInt8 := dkwJ3_linkLast_0 ++ dktJ3_linkLast_1
theorem dksJ3_linkLast_0 : cJ3_linkLast.data.toList.drop 0 = dktJ3_linkLast_0 := by decide +kernel
theorem dksJ3_linkLast_1 : cJ3_linkLast.data.toList.drop 22 = dktJ3_linkLast_1 := dk_seg dksJ3_linkLast_0 22 rfl rfl
theorem dksJ3_linkLast_2 : cJ3_linkLast.data.toList.drop 45 = dktJ3_linkLast_2 := dk_seg dksJ3_linkLast_1 23 rfl rfl
theorem dJ3_linkLast_0 : decode cJ3_linkLast 0 = .ok (.aload_n 0, 1) := dk_42 (dk_at dksJ3_linkLast_0 0 rfl rfl)
theorem dJ3_linkLast_1 : decode cJ3_linkLast 1 = .ok (.getfield 27, 3) := dk_180 0 27 (dk_at dksJ3_linkLast_0 1 rfl rfl)
theorem dJ3_linkLast_4 : decode cJ3_linkLast 4 = .ok (.astore_n 2, 1) := dk_77 (dk_at dksJ3_linkLast_0 4 rfl rfl)
theorem dJ3_linkLast_5 : decode cJ3_linkLast 5 = .ok (.new 22, 3) := dk_187 0 22 (dk_at dksJ3_linkLast_0 5 rfl rfl)
theorem dJ3_linkLast_8 : decode cJ3_linkLast 8 = .ok (.dup, 1) := dk_89 (dk_at dksJ3_linkLast_0 8 rfl rfl)
theorem dJ3_linkLast_9 : decode cJ3_linkLast 9 = .ok (.aload_n 2, 1) := dk_44 (dk_at dksJ3_linkLast_0 9 rfl rfl)
theorem dJ3_linkLast_10 : decode cJ3_linkLast 10 = .ok (.aload_n 1, 1) := dk_43 (dk_at dksJ3_linkLast_0 10 rfl rfl)
theorem dJ3_linkLast_11 : decode cJ3_linkLast 11 = .ok (.aconst_null, 1) := dk_1 (dk_at dksJ3_linkLast_0 11 rfl rfl)
theorem dJ3_linkLast_12 : decode cJ3_linkLast 12 = .ok (.invokespecial 24, 3) := dk_183 0 24 (dk_at dksJ3_linkLast_0 12 rfl rfl)
theorem dJ3_linkLast_15 : decode cJ3_linkLast 15 = .ok (.astore_n 3, 1) := dk_78 (dk_at dksJ3_linkLast_0 15 rfl rfl)
theorem dJ3_linkLast_16 : decode cJ3_linkLast 16 = .ok (.aload_n 0, 1) := dk_42 (dk_at dksJ3_linkLast_0 16 rfl rfl)
theorem dJ3_linkLast_17 : decode cJ3_linkLast 17 = .ok (.aload_n 3, 1) := dk_45 (dk_at dksJ3_linkLast_0 17 rfl rfl)
theorem dJ3_linkLast_18 : decode cJ3_linkLast 18 = .ok (.putfield 27, 3) := dk_181 0 27 (dk_at dksJ3_linkLast_0 18 rfl rfl)
theorem dJ3_linkLast_21 : decode cJ3_linkLast 21 = .ok (.aload_n 2, 1) := dk_44 (dk_at dksJ3_linkLast_0 21 rfl rfl)
theorem dJ3_linkLast_22 : decode cJ3_linkLast 22 = .ok (.ifnonnull 11, 3) := dk_199 0 11 (dk_at dksJ3_linkLast_1 0 rfl rfl)
theorem dJ3_linkLast_25 : decode cJ3_linkLast 25 = .ok (.aload_n 0, 1) := dk_42 (dk_at dksJ3_linkLast_1 3 rfl rfl)
theorem dJ3_linkLast_26 : decode cJ3_linkLast 26 = .ok (.aload_n 3, 1) := dk_45 (dk_at dksJ3_linkLast_1 4 rfl rfl)
theorem dJ3_linkLast_27 : decode cJ3_linkLast 27 = .ok (.putfield 18, 3) := dk_181 0 18 (dk_at dksJ3_linkLast_1 5 rfl rfl)
theorem dJ3_linkLast_30 : decode cJ3_linkLast 30 = .ok (.goto 8, 3) := dk_167 0 8 (dk_at dksJ3_linkLast_1 8 rfl rfl)
theorem dJ3_linkLast_33 : decode cJ3_linkLast 33 = .ok (.aload_n 2, 1) := dk_44 (dk_at dksJ3_linkLast_1 11 rfl rfl)
theorem dJ3_linkLast_34 : decode cJ3_linkLast 34 = .ok (.aload_n 3, 1) := dk_45 (dk_at dksJ3_linkLast_1 12 rfl rfl)
theorem dJ3_linkLast_35 : decode cJ3_linkLast 35 = .ok (.putfield 36, 3) := dk_181 0 36 (dk_at dksJ3_linkLast_1 13 rfl rfl)
theorem dJ3_linkLast_38 : decode cJ3_linkLast 38 = .ok (.aload_n 0, 1) := dk_42 (dk_at dksJ3_linkLast_1 16 rfl rfl)
theorem dJ3_linkLast_39 : decode cJ3_linkLast 39 = .ok (.dup, 1) := dk_89 (dk_at dksJ3_linkLast_1 17 rfl rfl)
theorem dJ3_linkLast_40 : decode cJ3_linkLast 40 = .ok (.getfield 7, 3) := dk_180 0 7 (dk_at dksJ3_linkLast_1 18 rfl rfl)
theorem dJ3_linkLast_43 : decode cJ3_linkLast 43 = .ok (.iconst 1, 1) := dk_4 (dk_at dksJ3_linkLast_1 21 rfl rfl)
theorem dJ3_linkLast_44 : decode cJ3_linkLast 44 = .ok (.iadd, 1) := dk_96 (dk_at dksJ3_linkLast_1 22 rfl rfl)
theorem dJ3_linkLast_45 : decode cJ3_linkLast 45 = .ok (.putfield 7, 3) := dk_181 0 7 (dk_at dksJ3_linkLast_2 0 rfl rfl)
theorem dJ3_linkLast_48 : decode cJ3_linkLast 48 = .ok (.aload_n 0, 1) := dk_42 (dk_at dksJ3_linkLast_2 3 rfl rfl)
theorem dJ3_linkLast_49 : decode cJ3_linkLast 49 = .ok (.dup, 1) := dk_89 (dk_at dksJ3_linkLast_2 4 rfl rfl)
theorem dJ3_linkLast_50 : decode cJ3_linkLast 50 = .ok (.getfield 33, 3) := dk_180 0 33 (dk_at dksJ3_linkLast_2 5 rfl rfl)
theorem dJ3_linkLast_53 : decode cJ3_linkLast 53 = .ok (.iconst 1, 1) := dk_4 (dk_at dksJ3_linkLast_2 8 rfl rfl)
theorem dJ3_linkLast_54 : decode cJ3_linkLast 54 = .ok (.iadd, 1) := dk_96 (dk_at dksJ3_linkLast_2 9 rfl rfl)
theorem dJ3_linkLast_55 : decode cJ3_linkLast 55 = .ok (.putfield 33, 3) := dk_181 0 33 (dk_at dksJ3_linkLast_2 10 rfl rfl)
theorem dJ3_linkLast_58 : decode cJ3_linkLast 58 = .ok (.return_, 1) := dk_177 (dk_at dksJ3_linkLast_2 13 rfl rfl)
abbrev cJ3_remove : ByteArray := prog_59_method_25_code
def yJ3_remove : MethodName := ⟨RJ3, "remove", "(I)Ljava/lang/Object;"⟩
def dkwJ3_remove_0 : List UInt8 := [42, 27, 182, 0, 90, 42, 42, 27, 182, 0, 86, 182, 0, 64, 176]
abbrev dktJ3_remove_0 : List UInt8 := dkwJ3_remove_0 ++ []
theorem dksJ3_remove_0 : cJ3_remove.data.toList.drop 0 = dktJ3_remove_0 := by decide +kernel
theorem dJ3_remove_0 : decode cJ3_remove 0 = .ok (.aload_n 0, 1) := dk_42 (dk_at dksJ3_remove_0 0 rfl rfl)
theorem dJ3_remove_1 : decode cJ3_remove 1 = .ok (.iload_n 1, 1) := dk_27 (dk_at dksJ3_remove_0 1 rfl rfl)
theorem dJ3_remove_2 : decode cJ3_remove 2 = .ok (.invokevirtual 90, 3) := dk_182 0 90 (dk_at dksJ3_remove_0 2 rfl rfl)
theorem dJ3_remove_5 : decode cJ3_remove 5 = .ok (.aload_n 0, 1) := dk_42 (dk_at dksJ3_remove_0 5 rfl rfl)
theorem dJ3_remove_6 : decode cJ3_remove 6 = .ok (.aload_n 0, 1) := dk_42 (dk_at dksJ3_remove_0 6 rfl rfl)
theorem dJ3_remove_7 : decode cJ3_remove 7 = .ok (.iload_n 1, 1) := dk_27 (dk_at dksJ3_remove_0 7 rfl rfl)
theorem dJ3_remove_8 : decode cJ3_remove 8 = .ok (.invokevirtual 86, 3) := dk_182 0 86 (dk_at dksJ3_remove_0 8 rfl rfl)
theorem dJ3_remove_11 : decode cJ3_remove 11 = .ok (.invokevirtual 64, 3) := dk_182 0 64 (dk_at dksJ3_remove_0 11 rfl rfl)
theorem dJ3_remove_14 : decode cJ3_remove 14 = .ok (.areturn, 1) := dk_176 (dk_at dksJ3_remove_0 14 rfl rfl)
abbrev cJ3_unlink : ByteArray := prog_59_method_8_code
def yJ3_unlink : MethodName := ⟨RJ3, "unlink", "(Ljava/util/LinkedList$Node;)Ljava/lang/Object;"⟩
def dkwJ3_unlink_3 : List UInt8 := [180, 0, 7, 4, 100, 181, 0, 7, 42, 89, 180, 0, 33, 4, 96, 181, 0, 33, 44, 176]
abbrev dktJ3_unlink_3 : List UInt8 := dkwJ3_unlink_3 ++ []
def dkwJ3_unlink_2 : List UInt8 := [181, 0, 27, 167, 0, 14, 45, 25, 4, 181, 0, 30, 43, 1, 181, 0, 36, 43, 1, 181, 0, 39, 42, 89]
abbrev dktJ3_unlink_2 : List UInt8 := dkwJ3_unlink_2 ++ dktJ3_unlink_3
def dkwJ3_unlink_1 : List UInt8 := [181, 0, 18, 167, 0, 14, 25, 4, 45, 181, 0, 36, 43, 1, 181, 0, 30, 45, 199, 0, 12, 42, 25, 4]
abbrev dktJ3_unlink_1 : List UInt8 := dkwJ3_unlink_1 ++ dktJ3_unlink_2
def dkwJ3_unlink_0 : List UInt8 := [43, 180, 0, 39, 77, 43, 180, 0, 36, 78, 43, 180, 0, 30, 58, 4, 25, 4, 199, 0, 11, 42, 45]
abbrev dktJ3_unlink_0 : List UInt8 := dkwJ3_unlink_0 ++ dktJ3_unlink_1
theorem dksJ3_unlink_0 : cJ3_unlink.data.toList.drop 0 = dktJ3_unlink_0 := by decide +kernel
theorem dksJ3_unlink_1 : cJ3_unlink.data.toList.drop 23 = dktJ3_unlink_1 := dk_seg dksJ3_unlink_0 23 rfl rfl
theorem dksJ3_unlink_2 : cJ3_unlink.data.toList.drop 47 = dktJ3_unlink_2 := dk_seg dksJ3_unlink_1 24 rfl rfl
theorem dksJ3_unlink_3 : cJ3_unlink.data.toList.drop 71 = dktJ3_unlink_3 := dk_seg dksJ3_unlink_2 24 rfl rfl
theorem dJ3_unlink_0 : decode cJ3_unlink 0 = .ok (.aload_n 1, 1) := dk_43 (dk_at dksJ3_unlink_0 0 rfl rfl)
theorem dJ3_unlink_1 : decode cJ3_unlink 1 = .ok (.getfield 39, 3) := dk_180 0 39 (dk_at dksJ3_unlink_0 1 rfl rfl)
theorem dJ3_unlink_4 : decode cJ3_unlink 4 = .ok (.astore_n 2, 1) := dk_77 (dk_at dksJ3_unlink_0 4 rfl rfl)
theorem dJ3_unlink_5 : decode cJ3_unlink 5 = .ok (.aload_n 1, 1) := dk_43 (dk_at dksJ3_unlink_0 5 rfl rfl)
theorem dJ3_unlink_6 : decode cJ3_unlink 6 = .ok (.getfield 36, 3) := dk_180 0 36 (dk_at dksJ3_unlink_0 6 rfl rfl)
theorem dJ3_unlink_9 : decode cJ3_unlink 9 = .ok (.astore_n 3, 1) := dk_78 (dk_at dksJ3_unlink_0 9 rfl rfl)
theorem dJ3_unlink_10 : decode cJ3_unlink 10 = .ok (.aload_n 1, 1) := dk_43 (dk_at dksJ3_unlink_0 10 rfl rfl)
theorem dJ3_unlink_11 : decode cJ3_unlink 11 = .ok (.getfield 30, 3) := dk_180 0 30 (dk_at dksJ3_unlink_0 11 rfl rfl)
theorem dJ3_unlink_14 : decode cJ3_unlink 14 = .ok (.astore 4, 2) := dk_58 4 (dk_at dksJ3_unlink_0 14 rfl rfl)
theorem dJ3_unlink_16 : decode cJ3_unlink 16 = .ok (.aload 4, 2) := dk_25 4 (dk_at dksJ3_unlink_0 16 rfl rfl)
theorem dJ3_unlink_18 : decode cJ3_unlink 18 = .ok (.ifnonnull 11, 3) := dk_199 0 11 (dk_at dksJ3_unlink_0 18 rfl rfl)
theorem dJ3_unlink_21 : decode cJ3_unlink 21 = .ok (.aload_n 0, 1) := dk_42 (dk_at dksJ3_unlink_0 21 rfl rfl)
theorem dJ3_unlink_22 : decode cJ3_unlink 22 = .ok (.aload_n 3, 1) := dk_45 (dk_at dksJ3_unlink_0 22 rfl rfl)
theorem dJ3_unlink_23 : decode cJ3_unlink 23 = .ok (.putfield 18, 3) := dk_181 0 18 (dk_at dksJ3_unlink_1 0 rfl rfl)
theorem dJ3_unlink_26 : decode cJ3_unlink 26 = .ok (.goto 14, 3) := dk_167 0 14 (dk_at dksJ3_unlink_1 3 rfl rfl)
theorem dJ3_unlink_29 : decode cJ3_unlink 29 = .ok (.aload 4, 2) := dk_25 4 (dk_at dksJ3_unlink_1 6 rfl rfl)
theorem dJ3_unlink_31 : decode cJ3_unlink 31 = .ok (.aload_n 3, 1) := dk_45 (dk_at dksJ3_unlink_1 8 rfl rfl)
theorem dJ3_unlink_32 : decode cJ3_unlink 32 = .ok (.putfield 36, 3) := dk_181 0 36 (dk_at dksJ3_unlink_1 9 rfl rfl)
theorem dJ3_unlink_35 : decode cJ3_unlink 35 = .ok (.aload_n 1, 1) := dk_43 (dk_at dksJ3_unlink_1 12 rfl rfl)
theorem dJ3_unlink_36 : decode cJ3_unlink 36 = .ok (.aconst_null, 1) := dk_1 (dk_at dksJ3_unlink_1 13 rfl rfl)
theorem dJ3_unlink_37 : decode cJ3_unlink 37 = .ok (.putfield 30, 3) := dk_181 0 30 (dk_at dksJ3_unlink_1 14 rfl rfl)
theorem dJ3_unlink_40 : decode cJ3_unlink 40 = .ok (.aload_n 3, 1) := dk_45 (dk_at dksJ3_unlink_1 17 rfl rfl)
theorem dJ3_unlink_41 : decode cJ3_unlink 41 = .ok (.ifnonnull 12, 3) := dk_199 0 12 (dk_at dksJ3_unlink_1 18 rfl rfl)
theorem dJ3_unlink_44 : decode cJ3_unlink 44 = .ok (.aload_n 0, 1) := dk_42 (dk_at dksJ3_unlink_1 21 rfl rfl)
theorem dJ3_unlink_45 : decode cJ3_unlink 45 = .ok (.aload 4, 2) := dk_25 4 (dk_at dksJ3_unlink_1 22 rfl rfl)
theorem dJ3_unlink_47 : decode cJ3_unlink 47 = .ok (.putfield 27, 3) := dk_181 0 27 (dk_at dksJ3_unlink_2 0 rfl rfl)
theorem dJ3_unlink_50 : decode cJ3_unlink 50 = .ok (.goto 14, 3) := dk_167 0 14 (dk_at dksJ3_unlink_2 3 rfl rfl)
theorem dJ3_unlink_53 : decode cJ3_unlink 53 = .ok (.aload_n 3, 1) := dk_45 (dk_at dksJ3_unlink_2 6 rfl rfl)
theorem dJ3_unlink_54 : decode cJ3_unlink 54 = .ok (.aload 4, 2) := dk_25 4 (dk_at dksJ3_unlink_2 7 rfl rfl)
theorem dJ3_unlink_56 : decode cJ3_unlink 56 = .ok (.putfield 30, 3) := dk_181 0 30 (dk_at dksJ3_unlink_2 9 rfl rfl)
theorem dJ3_unlink_59 : decode cJ3_unlink 59 = .ok (.aload_n 1, 1) := dk_43 (dk_at dksJ3_unlink_2 12 rfl rfl)
theorem dJ3_unlink_60 : decode cJ3_unlink 60 = .ok (.aconst_null, 1) := dk_1 (dk_at dksJ3_unlink_2 13 rfl rfl)
theorem dJ3_unlink_61 : decode cJ3_unlink 61 = .ok (.putfield 36, 3) := dk_181 0 36 (dk_at dksJ3_unlink_2 14 rfl rfl)
theorem dJ3_unlink_64 : decode cJ3_unlink 64 = .ok (.aload_n 1, 1) := dk_43 (dk_at dksJ3_unlink_2 17 rfl rfl)
theorem dJ3_unlink_65 : decode cJ3_unlink 65 = .ok (.aconst_null, 1) := dk_1 (dk_at dksJ3_unlink_2 18 rfl rfl)
theorem dJ3_unlink_66 : decode cJ3_unlink 66 = .ok (.putfield 39, 3) := dk_181 0 39 (dk_at dksJ3_unlink_2 19 rfl rfl)
theorem dJ3_unlink_69 : decode cJ3_unlink 69 = .ok (.aload_n 0, 1) := dk_42 (dk_at dksJ3_unlink_2 22 rfl rfl)
theorem dJ3_unlink_70 : decode cJ3_unlink 70 = .ok (.dup, 1) := dk_89 (dk_at dksJ3_unlink_2 23 rfl rfl)
theorem dJ3_unlink_71 : decode cJ3_unlink 71 = .ok (.getfield 7, 3) := dk_180 0 7 (dk_at dksJ3_unlink_3 0 rfl rfl)
theorem dJ3_unlink_74 : decode cJ3_unlink 74 = .ok (.iconst 1, 1) := dk_4 (dk_at dksJ3_unlink_3 3 rfl rfl)
theorem dJ3_unlink_75 : decode cJ3_unlink 75 = .ok (.isub, 1) := dk_100 (dk_at dksJ3_unlink_3 4 rfl rfl)
theorem dJ3_unlink_76 : decode cJ3_unlink 76 = .ok (.putfield 7, 3) := dk_181 0 7 (dk_at dksJ3_unlink_3 5 rfl rfl)
theorem dJ3_unlink_79 : decode cJ3_unlink 79 = .ok (.aload_n 0, 1) := dk_42 (dk_at dksJ3_unlink_3 8 rfl rfl)
theorem dJ3_unlink_80 : decode cJ3_unlink 80 = .ok (.dup, 1) := dk_89 (dk_at dksJ3_unlink_3 9 rfl rfl)
theorem dJ3_unlink_81 : decode cJ3_unlink 81 = .ok (.getfield 33, 3) := dk_180 0 33 (dk_at dksJ3_unlink_3 10 rfl rfl)
theorem dJ3_unlink_84 : decode cJ3_unlink 84 = .ok (.iconst 1, 1) := dk_4 (dk_at dksJ3_unlink_3 13 rfl rfl)
theorem dJ3_unlink_85 : decode cJ3_unlink 85 = .ok (.iadd, 1) := dk_96 (dk_at dksJ3_unlink_3 14 rfl rfl)
theorem dJ3_unlink_86 : decode cJ3_unlink 86 = .ok (.putfield 33, 3) := dk_181 0 33 (dk_at dksJ3_unlink_3 15 rfl rfl)
theorem dJ3_unlink_89 : decode cJ3_unlink 89 = .ok (.aload_n 2, 1) := dk_44 (dk_at dksJ3_unlink_3 18 rfl rfl)
theorem dJ3_unlink_90 : decode cJ3_unlink 90 = .ok (.areturn, 1) := dk_176 (dk_at dksJ3_unlink_3 19 rfl rfl)
abbrev cJ3_add_2 : ByteArray := prog_59_method_24_code
def yJ3_add_2 : MethodName := ⟨RJ3, "add", "(ILjava/lang/Object;)V"⟩
def dkwJ3_add_2_1 : List UInt8 := [27, 182, 0, 86, 182, 0, 93, 177]
abbrev dktJ3_add_2_1 : List UInt8 := dkwJ3_add_2_1 ++ []
def dkwJ3_add_2_0 : List UInt8 := [42, 27, 182, 0, 76, 27, 42, 180, 0, 7, 160, 0, 11, 42, 44, 182, 0, 57, 167, 0, 13, 42, 44, 42]
abbrev dktJ3_add_2_0 : List UInt8 := dkwJ3_add_2_0 ++ dktJ3_add_2_1
theorem dksJ3_add_2_0 : cJ3_add_2.data.toList.drop 0 = dktJ3_add_2_0 := by decide +kernel
theorem dksJ3_add_2_1 : cJ3_add_2.data.toList.drop 24 = dktJ3_add_2_1 := dk_seg dksJ3_add_2_0 24 rfl rfl
theorem dJ3_add_2_0 : decode cJ3_add_2 0 = .ok (.aload_n 0, 1) := dk_42 (dk_at dksJ3_add_2_0 0 rfl rfl)
theorem dJ3_add_2_1 : decode cJ3_add_2 1 = .ok (.iload_n 1, 1) := dk_27 (dk_at dksJ3_add_2_0 1 rfl rfl)
theorem dJ3_add_2_2 : decode cJ3_add_2 2 = .ok (.invokevirtual 76, 3) := dk_182 0 76 (dk_at dksJ3_add_2_0 2 rfl rfl)
theorem dJ3_add_2_5 : decode cJ3_add_2 5 = .ok (.iload_n 1, 1) := dk_27 (dk_at dksJ3_add_2_0 5 rfl rfl)
theorem dJ3_add_2_6 : decode cJ3_add_2 6 = .ok (.aload_n 0, 1) := dk_42 (dk_at dksJ3_add_2_0 6 rfl rfl)
theorem dJ3_add_2_7 : decode cJ3_add_2 7 = .ok (.getfield 7, 3) := dk_180 0 7 (dk_at dksJ3_add_2_0 7 rfl rfl)
theorem dJ3_add_2_10 : decode cJ3_add_2 10 = .ok (.if_icmp .ne 11, 3) := dk_160 0 11 (dk_at dksJ3_add_2_0 10 rfl rfl)
theorem dJ3_add_2_13 : decode cJ3_add_2 13 = .ok (.aload_n 0, 1) := dk_42 (dk_at dksJ3_add_2_0 13 rfl rfl)
theorem dJ3_add_2_14 : decode cJ3_add_2 14 = .ok (.aload_n 2, 1) := dk_44 (dk_at dksJ3_add_2_0 14 rfl rfl)
theorem dJ3_add_2_15 : decode cJ3_add_2 15 = .ok (.invokevirtual 57, 3) := dk_182 0 57 (dk_at dksJ3_add_2_0 15 rfl rfl)
theorem dJ3_add_2_18 : decode cJ3_add_2 18 = .ok (.goto 13, 3) := dk_167 0 13 (dk_at dksJ3_add_2_0 18 rfl rfl)
theorem dJ3_add_2_21 : decode cJ3_add_2 21 = .ok (.aload_n 0, 1) := dk_42 (dk_at dksJ3_add_2_0 21 rfl rfl)
theorem dJ3_add_2_22 : decode cJ3_add_2 22 = .ok (.aload_n 2, 1) := dk_44 (dk_at dksJ3_add_2_0 22 rfl rfl)
theorem dJ3_add_2_23 : decode cJ3_add_2 23 = .ok (.aload_n 0, 1) := dk_42 (dk_at dksJ3_add_2_0 23 rfl rfl)
theorem dJ3_add_2_24 : decode cJ3_add_2 24 = .ok (.iload_n 1, 1) := dk_27 (dk_at dksJ3_add_2_1 0 rfl rfl)
theorem dJ3_add_2_25 : decode cJ3_add_2 25 = .ok (.invokevirtual 86, 3) := dk_182 0 86 (dk_at dksJ3_add_2_1 1 rfl rfl)
theorem dJ3_add_2_28 : decode cJ3_add_2 28 = .ok (.invokevirtual 93, 3) := dk_182 0 93 (dk_at dksJ3_add_2_1 4 rfl rfl)
theorem dJ3_add_2_31 : decode cJ3_add_2 31 = .ok (.return_, 1) := dk_177 (dk_at dksJ3_add_2_1 7 rfl rfl)
abbrev cJ3_linkBefore : ByteArray := prog_59_method_5_code
def yJ3_linkBefore : MethodName := ⟨RJ3, "linkBefore", "(Ljava/lang/Object;Ljava/util/LinkedList$Node;)V"⟩
def dkwJ3_linkBefore_2 : List UInt8 := [96, 181, 0, 7, 42, 89, 180, 0, 33, 4, 96, 181, 0, 33, 177]
abbrev dktJ3_linkBefore_2 : List UInt8 := dkwJ3_linkBefore_2 ++ []
def dkwJ3_linkBefore_1 : List UInt8 := [199, 0, 12, 42, 25, 4, 181, 0, 18, 167, 0, 9, 45, 25, 4, 181, 0, 36, 42, 89, 180, 0, 7, 4]
abbrev dktJ3_linkBefore_1 : List UInt8 := dkwJ3_linkBefore_1 ++ dktJ3_linkBefore_2
def dkwJ3_linkBefore_0 : List UInt8 := [44, 180, 0, 30, 78, 187, 0, 22, 89, 45, 43, 44, 183, 0, 24, 58, 4, 44, 25, 4, 181, 0, 30, 45]
abbrev dktJ3_linkBefore_0 : List UInt8 := dkwJ3_linkBefore_0 ++ dktJ3_linkBefore_1
theorem dksJ3_linkBefore_0 : cJ3_linkBefore.data.toList.drop 0 = dktJ3_linkBefore_0 := by decide +kernel
theorem dksJ3_linkBefore_1 : cJ3_linkBefore.data.toList.drop 24 = dktJ3_linkBefore_1 := dk_seg dksJ3_linkBefore_0 24 rfl rfl
theorem dksJ3_linkBefore_2 : cJ3_linkBefore.data.toList.drop 48 = dktJ3_linkBefore_2 := dk_seg dksJ3_linkBefore_1 24 rfl rfl
theorem dJ3_linkBefore_0 : decode cJ3_linkBefore 0 = .ok (.aload_n 2, 1) := dk_44 (dk_at dksJ3_linkBefore_0 0 rfl rfl)
theorem dJ3_linkBefore_1 : decode cJ3_linkBefore 1 = .ok (.getfield 30, 3) := dk_180 0 30 (dk_at dksJ3_linkBefore_0 1 rfl rfl)
theorem dJ3_linkBefore_4 : decode cJ3_linkBefore 4 = .ok (.astore_n 3, 1) := dk_78 (dk_at dksJ3_linkBefore_0 4 rfl rfl)
theorem dJ3_linkBefore_5 : decode cJ3_linkBefore 5 = .ok (.new 22, 3) := dk_187 0 22 (dk_at dksJ3_linkBefore_0 5 rfl rfl)
theorem dJ3_linkBefore_8 : decode cJ3_linkBefore 8 = .ok (.dup, 1) := dk_89 (dk_at dksJ3_linkBefore_0 8 rfl rfl)
theorem dJ3_linkBefore_9 : decode cJ3_linkBefore 9 = .ok (.aload_n 3, 1) := dk_45 (dk_at dksJ3_linkBefore_0 9 rfl rfl)
theorem dJ3_linkBefore_10 : decode cJ3_linkBefore 10 = .ok (.aload_n 1, 1) := dk_43 (dk_at dksJ3_linkBefore_0 10 rfl rfl)
theorem dJ3_linkBefore_11 : decode cJ3_linkBefore 11 = .ok (.aload_n 2, 1) := dk_44 (dk_at dksJ3_linkBefore_0 11 rfl rfl)
theorem dJ3_linkBefore_12 : decode cJ3_linkBefore 12 = .ok (.invokespecial 24, 3) := dk_183 0 24 (dk_at dksJ3_linkBefore_0 12 rfl rfl)
theorem dJ3_linkBefore_15 : decode cJ3_linkBefore 15 = .ok (.astore 4, 2) := dk_58 4 (dk_at dksJ3_linkBefore_0 15 rfl rfl)
theorem dJ3_linkBefore_17 : decode cJ3_linkBefore 17 = .ok (.aload_n 2, 1) := dk_44 (dk_at dksJ3_linkBefore_0 17 rfl rfl)
theorem dJ3_linkBefore_18 : decode cJ3_linkBefore 18 = .ok (.aload 4, 2) := dk_25 4 (dk_at dksJ3_linkBefore_0 18 rfl rfl)
theorem dJ3_linkBefore_20 : decode cJ3_linkBefore 20 = .ok (.putfield 30, 3) := dk_181 0 30 (dk_at dksJ3_linkBefore_0 20 rfl rfl)
theorem dJ3_linkBefore_23 : decode cJ3_linkBefore 23 = .ok (.aload_n 3, 1) := dk_45 (dk_at dksJ3_linkBefore_0 23 rfl rfl)
theorem dJ3_linkBefore_24 : decode cJ3_linkBefore 24 = .ok (.ifnonnull 12, 3) := dk_199 0 12 (dk_at dksJ3_linkBefore_1 0 rfl rfl)
theorem dJ3_linkBefore_27 : decode cJ3_linkBefore 27 = .ok (.aload_n 0, 1) := dk_42 (dk_at dksJ3_linkBefore_1 3 rfl rfl)
theorem dJ3_linkBefore_28 : decode cJ3_linkBefore 28 = .ok (.aload 4, 2) := dk_25 4 (dk_at dksJ3_linkBefore_1 4 rfl rfl)
theorem dJ3_linkBefore_30 : decode cJ3_linkBefore 30 = .ok (.putfield 18, 3) := dk_181 0 18 (dk_at dksJ3_linkBefore_1 6 rfl rfl)
theorem dJ3_linkBefore_33 : decode cJ3_linkBefore 33 = .ok (.goto 9, 3) := dk_167 0 9 (dk_at dksJ3_linkBefore_1 9 rfl rfl)
theorem dJ3_linkBefore_36 : decode cJ3_linkBefore 36 = .ok (.aload_n 3, 1) := dk_45 (dk_at dksJ3_linkBefore_1 12 rfl rfl)
theorem dJ3_linkBefore_37 : decode cJ3_linkBefore 37 = .ok (.aload 4, 2) := dk_25 4 (dk_at dksJ3_linkBefore_1 13 rfl rfl)
theorem dJ3_linkBefore_39 : decode cJ3_linkBefore 39 = .ok (.putfield 36, 3) := dk_181 0 36 (dk_at dksJ3_linkBefore_1 15 rfl rfl)
theorem dJ3_linkBefore_42 : decode cJ3_linkBefore 42 = .ok (.aload_n 0, 1) := dk_42 (dk_at dksJ3_linkBefore_1 18 rfl rfl)
theorem dJ3_linkBefore_43 : decode cJ3_linkBefore 43 = .ok (.dup, 1) := dk_89 (dk_at dksJ3_linkBefore_1 19 rfl rfl)
theorem dJ3_linkBefore_44 : decode cJ3_linkBefore 44 = .ok (.getfield 7, 3) := dk_180 0 7 (dk_at dksJ3_linkBefore_1 20 rfl rfl)
theorem dJ3_linkBefore_47 : decode cJ3_linkBefore 47 = .ok (.iconst 1, 1) := dk_4 (dk_at dksJ3_linkBefore_1 23 rfl rfl)
theorem dJ3_linkBefore_48 : decode cJ3_linkBefore 48 = .ok (.iadd, 1) := dk_96 (dk_at dksJ3_linkBefore_2 0 rfl rfl)
theorem dJ3_linkBefore_49 : decode cJ3_linkBefore 49 = .ok (.putfield 7, 3) := dk_181 0 7 (dk_at dksJ3_linkBefore_2 1 rfl rfl)
theorem dJ3_linkBefore_52 : decode cJ3_linkBefore 52 = .ok (.aload_n 0, 1) := dk_42 (dk_at dksJ3_linkBefore_2 4 rfl rfl)
theorem dJ3_linkBefore_53 : decode cJ3_linkBefore 53 = .ok (.dup, 1) := dk_89 (dk_at dksJ3_linkBefore_2 5 rfl rfl)
theorem dJ3_linkBefore_54 : decode cJ3_linkBefore 54 = .ok (.getfield 33, 3) := dk_180 0 33 (dk_at dksJ3_linkBefore_2 6 rfl rfl)
theorem dJ3_linkBefore_57 : decode cJ3_linkBefore 57 = .ok (.iconst 1, 1) := dk_4 (dk_at dksJ3_linkBefore_2 9 rfl rfl)
theorem dJ3_linkBefore_58 : decode cJ3_linkBefore 58 = .ok (.iadd, 1) := dk_96 (dk_at dksJ3_linkBefore_2 10 rfl rfl)
theorem dJ3_linkBefore_59 : decode cJ3_linkBefore 59 = .ok (.putfield 33, 3) := dk_181 0 33 (dk_at dksJ3_linkBefore_2 11 rfl rfl)
theorem dJ3_linkBefore_62 : decode cJ3_linkBefore 62 = .ok (.return_, 1) := dk_177 (dk_at dksJ3_linkBefore_2 14 rfl rfl)
theorem q121 : (Jvm.Cond.initialized "java/util/LinkedList") ∈ lw_all := lw_g (lw_at lw_m1 6 rfl) rfl
theorem q183 : (Jvm.Cond.instantiable "java/util/LinkedList" (4 : Nat)) ∈ lw_all := lw_g (lw_at lw_m1 68 rfl) rfl
theorem q185 : (Jvm.Cond.instanceMethod ({ cls := "java/util/LinkedList", name := "<init>", desc := "()V" } : Jvm.MethodName)) ∈ lw_all := lw_g (lw_at lw_m1 70 rfl) rfl
theorem q186 : (Jvm.Cond.code ({ cls := "java/util/LinkedList", name := "<init>", desc := "()V" } : Jvm.MethodName) prog_59_method_1_code (1 : Nat) (Option.none : Option Jvm.ClassFile.FieldType)) ∈ lw_all := lw_g (lw_at lw_m1 71 rfl) rfl
theorem q187 : (Jvm.Cond.methodLink "java/util/LinkedList" (1 : Nat) ({ cls := "java/util/AbstractSequentialList", name := "<init>", desc := "()V" } : Jvm.MethodName)) ∈ lw_all := lw_g (lw_at lw_m1 72 rfl) rfl
theorem q197 : (Jvm.Cond.fieldLink "java/util/LinkedList" (7 : Nat) "java/util/LinkedList" "size" "I") ∈ lw_all := lw_g (lw_at lw_m1 82 rfl) rfl
theorem q199 : (Jvm.Cond.fieldLink "java/util/LinkedList" (18 : Nat) "java/util/LinkedList" "first" "Ljava/util/LinkedList$Node;") ∈ lw_all := lw_g (lw_at lw_m1 84 rfl) rfl
theorem q200 : (Jvm.Cond.fieldLink "java/util/LinkedList" (27 : Nat) "java/util/LinkedList" "last" "Ljava/util/LinkedList$Node;") ∈ lw_all := lw_g (lw_at lw_m1 85 rfl) rfl
theorem q203 : (Jvm.Cond.sameField "java/util/LinkedList" "java/util/AbstractList" "modCount" "I") ∈ lw_all := lw_g (lw_at lw_m1 88 rfl) rfl
theorem q205 : (Jvm.Cond.fieldLink "java/util/LinkedList" (33 : Nat) "java/util/LinkedList" "modCount" "I") ∈ lw_all := lw_g (lw_at lw_m1 90 rfl) rfl
theorem q206 : (Jvm.Cond.lays "java/util/LinkedList" "java/util/LinkedList" "size" "I") ∈ lw_all := lw_g (lw_at lw_m1 91 rfl) rfl
theorem q207 : (Jvm.Cond.soleField "java/util/LinkedList" "size") ∈ lw_all := lw_g (lw_at lw_m1 92 rfl) rfl
theorem q208 : (Jvm.Cond.lays "java/util/LinkedList" "java/util/LinkedList" "first" "Ljava/util/LinkedList$Node;") ∈ lw_all := lw_g (lw_at lw_m1 93 rfl) rfl
theorem q209 : (Jvm.Cond.soleField "java/util/LinkedList" "first") ∈ lw_all := lw_g (lw_at lw_m1 94 rfl) rfl
theorem q210 : (Jvm.Cond.lays "java/util/LinkedList" "java/util/LinkedList" "last" "Ljava/util/LinkedList$Node;") ∈ lw_all := lw_g (lw_at lw_m1 95 rfl) rfl
theorem q211 : (Jvm.Cond.soleField "java/util/LinkedList" "last") ∈ lw_all := lw_g (lw_at lw_m1 96 rfl) rfl
theorem q212 : (Jvm.Cond.lays "java/util/LinkedList" "java/util/AbstractList" "modCount" "I") ∈ lw_all := lw_g (lw_at lw_m1 97 rfl) rfl
theorem q214 : (Jvm.Cond.superclass "java/util/LinkedList" "java/util/AbstractSequentialList") ∈ lw_all := lw_g (lw_at lw_m1 99 rfl) rfl
theorem q622 : (Jvm.Cond.instanceMethod ({ cls := "java/util/LinkedList", name := "size", desc := "()I" } : Jvm.MethodName)) ∈ lw_all := lw_g (lw_at lw_m3 27 rfl) rfl
theorem q623 : (Jvm.Cond.selects "java/util/LinkedList" ({ cls := "java/util/LinkedList", name := "size", desc := "()I" } : Jvm.MethodName) ({ cls := "java/util/LinkedList", name := "size", desc := "()I" } : Jvm.MethodName)) ∈ lw_all := lw_g (lw_at lw_m3 28 rfl) rfl
theorem q624 : (Jvm.Cond.code ({ cls := "java/util/LinkedList", name := "size", desc := "()I" } : Jvm.MethodName) prog_59_method_16_code (1 : Nat) (Option.some Jvm.ClassFile.FieldType.int)) ∈ lw_all := lw_g (lw_at lw_m3 29 rfl) rfl
theorem q689 : (Jvm.Cond.selects "java/util/LinkedList" ({ cls := "java/lang/Object", name := "getClass", desc := "()Ljava/lang/Class;" } : Jvm.MethodName) ({ cls := "java/lang/Object", name := "getClass", desc := "()Ljava/lang/Class;" } : Jvm.MethodName)) ∈ lw_all := lw_g (lw_at lw_m3 94 rfl) rfl
theorem q1220 : (Jvm.Cond.castable "java/util/LinkedList" "java/util/List") ∈ lw_tbl := lw_at lw_m5 145 rfl
theorem q1221 : (Jvm.Cond.selects "java/util/LinkedList" ({ cls := "java/util/List", name := "contains", desc := "(Ljava/lang/Object;)Z" } : Jvm.MethodName) ({ cls := "java/util/LinkedList", name := "contains", desc := "(Ljava/lang/Object;)Z" } : Jvm.MethodName)) ∈ lw_all := lw_g (lw_at lw_m5 146 rfl) rfl
theorem q1222 : (Jvm.Cond.unhidden "java/util/LinkedList" "contains" "(Ljava/lang/Object;)Z") ∈ lw_tbl := lw_at lw_m5 147 rfl
theorem q1223 : (Jvm.Cond.instanceMethod ({ cls := "java/util/LinkedList", name := "contains", desc := "(Ljava/lang/Object;)Z" } : Jvm.MethodName)) ∈ lw_all := lw_g (lw_at lw_m5 148 rfl) rfl
theorem q1224 : (Jvm.Cond.publicMethod ({ cls := "java/util/LinkedList", name := "contains", desc := "(Ljava/lang/Object;)Z" } : Jvm.MethodName)) ∈ lw_tbl := lw_at lw_m5 149 rfl
theorem q1225 : (Jvm.Cond.code ({ cls := "java/util/LinkedList", name := "contains", desc := "(Ljava/lang/Object;)Z" } : Jvm.MethodName) prog_59_method_15_code (2 : Nat) (Option.some Jvm.ClassFile.FieldType.boolean)) ∈ lw_all := lw_g (lw_at lw_m5 150 rfl) rfl
theorem q1226 : (Jvm.Cond.methodLink "java/util/LinkedList" (60 : Nat) ({ cls := "java/util/LinkedList", name := "indexOf", desc := "(Ljava/lang/Object;)I" } : Jvm.MethodName)) ∈ lw_all := lw_g (lw_at lw_m5 151 rfl) rfl
theorem q1227 : (Jvm.Cond.instanceMethod ({ cls := "java/util/LinkedList", name := "indexOf", desc := "(Ljava/lang/Object;)I" } : Jvm.MethodName)) ∈ lw_all := lw_g (lw_at lw_m5 152 rfl) rfl
theorem q1228 : (Jvm.Cond.selects "java/util/LinkedList" ({ cls := "java/util/LinkedList", name := "indexOf", desc := "(Ljava/lang/Object;)I" } : Jvm.MethodName) ({ cls := "java/util/LinkedList", name := "indexOf", desc := "(Ljava/lang/Object;)I" } : Jvm.MethodName)) ∈ lw_all := lw_g (lw_at lw_m5 153 rfl) rfl
theorem q1229 : (Jvm.Cond.code ({ cls := "java/util/LinkedList", name := "indexOf", desc := "(Ljava/lang/Object;)I" } : Jvm.MethodName) prog_59_method_32_code (4 : Nat) (Option.some Jvm.ClassFile.FieldType.int)) ∈ lw_all := lw_g (lw_at lw_m5 154 rfl) rfl
theorem q1230 : (Jvm.Cond.methodLink "java/util/LinkedList" (67 : Nat) ({ cls := "java/lang/Object", name := "equals", desc := "(Ljava/lang/Object;)Z" } : Jvm.MethodName)) ∈ lw_all := lw_g (lw_at lw_m5 155 rfl) rfl
theorem q1236 : (Jvm.Cond.sameMethod "java/util/LinkedList" "java/util/AbstractSequentialList" "iterator" "()Ljava/util/Iterator;") ∈ lw_all := lw_g (lw_at lw_m5 161 rfl) rfl
theorem q1238 : (Jvm.Cond.selects "java/util/LinkedList" ({ cls := "java/util/LinkedList", name := "iterator", desc := "()Ljava/util/Iterator;" } : Jvm.MethodName) ({ cls := "java/util/AbstractSequentialList", name := "iterator", desc := "()Ljava/util/Iterator;" } : Jvm.MethodName)) ∈ lw_all := lw_g (lw_at lw_m5 163 rfl) rfl
theorem q1244 : (Jvm.Cond.selects "java/util/LinkedList" ({ cls := "java/util/AbstractSequentialList", name := "listIterator", desc := "()Ljava/util/ListIterator;" } : Jvm.MethodName) ({ cls := "java/util/AbstractList", name := "listIterator", desc := "()Ljava/util/ListIterator;" } : Jvm.MethodName)) ∈ lw_all := lw_g (lw_at lw_m5 169 rfl) rfl
theorem q1250 : (Jvm.Cond.selects "java/util/LinkedList" ({ cls := "java/util/AbstractList", name := "listIterator", desc := "(I)Ljava/util/ListIterator;" } : Jvm.MethodName) ({ cls := "java/util/LinkedList", name := "listIterator", desc := "(I)Ljava/util/ListIterator;" } : Jvm.MethodName)) ∈ lw_all := lw_g (lw_at lw_m5 175 rfl) rfl
theorem q1251 : (Jvm.Cond.instanceMethod ({ cls := "java/util/LinkedList", name := "listIterator", desc := "(I)Ljava/util/ListIterator;" } : Jvm.MethodName)) ∈ lw_all := lw_g (lw_at lw_m5 176 rfl) rfl
theorem q1252 : (Jvm.Cond.code ({ cls := "java/util/LinkedList", name := "listIterator", desc := "(I)Ljava/util/ListIterator;" } : Jvm.MethodName) prog_59_method_49_code (2 : Nat) (Option.some (Jvm.ClassFile.FieldType.object "java/util/ListIterator"))) ∈ lw_all := lw_g (lw_at lw_m5 177 rfl) rfl
theorem q1253 : (Jvm.Cond.methodLink "java/util/LinkedList" (76 : Nat) ({ cls := "java/util/LinkedList", name := "checkPositionIndex", desc := "(I)V" } : Jvm.MethodName)) ∈ lw_all := lw_g (lw_at lw_m5 178 rfl) rfl
theorem q1254 : (Jvm.Cond.privateMethod ({ cls := "java/util/LinkedList", name := "checkPositionIndex", desc := "(I)V" } : Jvm.MethodName)) ∈ lw_tbl := lw_at lw_m5 179 rfl
theorem q1255 : (Jvm.Cond.instanceMethod ({ cls := "java/util/LinkedList", name := "checkPositionIndex", desc := "(I)V" } : Jvm.MethodName)) ∈ lw_all := lw_g (lw_at lw_m5 180 rfl) rfl
theorem q1256 : (Jvm.Cond.code ({ cls := "java/util/LinkedList", name := "checkPositionIndex", desc := "(I)V" } : Jvm.MethodName) prog_59_method_30_code (2 : Nat) (Option.none : Option Jvm.ClassFile.FieldType)) ∈ lw_all := lw_g (lw_at lw_m5 181 rfl) rfl
theorem q1257 : (Jvm.Cond.methodLink "java/util/LinkedList" (128 : Nat) ({ cls := "java/util/LinkedList", name := "isPositionIndex", desc := "(I)Z" } : Jvm.MethodName)) ∈ lw_all := lw_g (lw_at lw_m5 182 rfl) rfl
theorem q1258 : (Jvm.Cond.privateMethod ({ cls := "java/util/LinkedList", name := "isPositionIndex", desc := "(I)Z" } : Jvm.MethodName)) ∈ lw_tbl := lw_at lw_m5 183 rfl
theorem q1259 : (Jvm.Cond.instanceMethod ({ cls := "java/util/LinkedList", name := "isPositionIndex", desc := "(I)Z" } : Jvm.MethodName)) ∈ lw_all := lw_g (lw_at lw_m5 184 rfl) rfl
theorem q1260 : (Jvm.Cond.code ({ cls := "java/util/LinkedList", name := "isPositionIndex", desc := "(I)Z" } : Jvm.MethodName) prog_59_method_27_code (2 : Nat) (Option.some Jvm.ClassFile.FieldType.boolean)) ∈ lw_all := lw_g (lw_at lw_m5 185 rfl) rfl
theorem q1261 : (Jvm.Cond.classLink "java/util/LinkedList" (119 : Nat) "java/lang/IndexOutOfBoundsException") ∈ lw_all := lw_g (lw_at lw_m5 186 rfl) rfl
theorem q1270 : (Jvm.Cond.methodLink "java/util/LinkedList" (121 : Nat) ({ cls := "java/util/LinkedList", name := "outOfBoundsMsg", desc := "(I)Ljava/lang/String;" } : Jvm.MethodName)) ∈ lw_all := lw_g (lw_at lw_m5 195 rfl) rfl
theorem q1271 : (Jvm.Cond.privateMethod ({ cls := "java/util/LinkedList", name := "outOfBoundsMsg", desc := "(I)Ljava/lang/String;" } : Jvm.MethodName)) ∈ lw_tbl := lw_at lw_m5 196 rfl
theorem q1272 : (Jvm.Cond.instanceMethod ({ cls := "java/util/LinkedList", name := "outOfBoundsMsg", desc := "(I)Ljava/lang/String;" } : Jvm.MethodName)) ∈ lw_all := lw_g (lw_at lw_m5 197 rfl) rfl
theorem q1273 : (Jvm.Cond.code ({ cls := "java/util/LinkedList", name := "outOfBoundsMsg", desc := "(I)Ljava/lang/String;" } : Jvm.MethodName) prog_59_method_28_code (2 : Nat) (Option.some (Jvm.ClassFile.FieldType.object "java/lang/String"))) ∈ lw_all := lw_g (lw_at lw_m5 198 rfl) rfl
theorem q1274 : (Jvm.Cond.classLink "java/util/LinkedList" (97 : Nat) "java/lang/StringBuilder") ∈ lw_all := lw_g (lw_at lw_m5 199 rfl) rfl
theorem q1275 : (Jvm.Cond.methodLink "java/util/LinkedList" (99 : Nat) ({ cls := "java/lang/StringBuilder", name := "<init>", desc := "()V" } : Jvm.MethodName)) ∈ lw_all := lw_g (lw_at lw_m5 200 rfl) rfl
theorem q1276 : (Jvm.Cond.stringRef "java/util/LinkedList" (100 : Nat) "Index: ") ∈ lw_tbl := lw_at lw_m5 201 rfl
theorem q1277 : (Jvm.Cond.methodLink "java/util/LinkedList" (102 : Nat) ({ cls := "java/lang/StringBuilder", name := "append", desc := "(Ljava/lang/String;)Ljava/lang/StringBuilder;" } : Jvm.MethodName)) ∈ lw_all := lw_g (lw_at lw_m5 202 rfl) rfl
theorem q1278 : (Jvm.Cond.methodLink "java/util/LinkedList" (106 : Nat) ({ cls := "java/lang/StringBuilder", name := "append", desc := "(I)Ljava/lang/StringBuilder;" } : Jvm.MethodName)) ∈ lw_all := lw_g (lw_at lw_m5 203 rfl) rfl
theorem q1279 : (Jvm.Cond.stringRef "java/util/LinkedList" (109 : Nat) ", Size: ") ∈ lw_tbl := lw_at lw_m5 204 rfl
theorem q1280 : (Jvm.Cond.methodLink "java/util/LinkedList" (111 : Nat) ({ cls := "java/lang/StringBuilder", name := "toString", desc := "()Ljava/lang/String;" } : Jvm.MethodName)) ∈ lw_all := lw_g (lw_at lw_m5 205 rfl) rfl
theorem q1281 : (Jvm.Cond.methodLink "java/util/LinkedList" (125 : Nat) ({ cls := "java/lang/IndexOutOfBoundsException", name := "<init>", desc := "(Ljava/lang/String;)V" } : Jvm.MethodName)) ∈ lw_all := lw_g (lw_at lw_m5 206 rfl) rfl
theorem q1287 : (Jvm.Cond.classLink "java/util/LinkedList" (150 : Nat) "java/util/LinkedList$ListItr") ∈ lw_all := lw_g (lw_at lw_m5 212 rfl) rfl
theorem q1289 : (Jvm.Cond.methodLink "java/util/LinkedList" (152 : Nat) ({ cls := "java/util/LinkedList$ListItr", name := "<init>", desc := "(Ljava/util/LinkedList;I)V" } : Jvm.MethodName)) ∈ lw_all := lw_g (lw_at lw_m5 214 rfl) rfl
theorem q1294 : (Jvm.Cond.instanceMethod ({ cls := "java/util/LinkedList", name := "node", desc := "(I)Ljava/util/LinkedList$Node;" } : Jvm.MethodName)) ∈ lw_all := lw_g (lw_at lw_m5 219 rfl) rfl
theorem q1295 : (Jvm.Cond.selects "java/util/LinkedList" ({ cls := "java/util/LinkedList", name := "node", desc := "(I)Ljava/util/LinkedList$Node;" } : Jvm.MethodName) ({ cls := "java/util/LinkedList", name := "node", desc := "(I)Ljava/util/LinkedList$Node;" } : Jvm.MethodName)) ∈ lw_all := lw_g (lw_at lw_m5 220 rfl) rfl
theorem q1296 : (Jvm.Cond.code ({ cls := "java/util/LinkedList", name := "node", desc := "(I)Ljava/util/LinkedList$Node;" } : Jvm.MethodName) prog_59_method_31_code (4 : Nat) (Option.some (Jvm.ClassFile.FieldType.object "java/util/LinkedList$Node"))) ∈ lw_all := lw_g (lw_at lw_m5 221 rfl) rfl
theorem q1327 : (Jvm.Cond.selects "java/util/LinkedList" ({ cls := "java/util/AbstractList", name := "size", desc := "()I" } : Jvm.MethodName) ({ cls := "java/util/LinkedList", name := "size", desc := "()I" } : Jvm.MethodName)) ∈ lw_all := lw_g (lw_at lw_m6 12 rfl) rfl
theorem q1351 : (Jvm.Cond.selects "java/util/LinkedList" ({ cls := "java/util/AbstractList", name := "get", desc := "(I)Ljava/lang/Object;" } : Jvm.MethodName) ({ cls := "java/util/LinkedList", name := "get", desc := "(I)Ljava/lang/Object;" } : Jvm.MethodName)) ∈ lw_all := lw_g (lw_at lw_m6 36 rfl) rfl
theorem q1352 : (Jvm.Cond.instanceMethod ({ cls := "java/util/LinkedList", name := "get", desc := "(I)Ljava/lang/Object;" } : Jvm.MethodName)) ∈ lw_all := lw_g (lw_at lw_m6 37 rfl) rfl
theorem q1353 : (Jvm.Cond.code ({ cls := "java/util/LinkedList", name := "get", desc := "(I)Ljava/lang/Object;" } : Jvm.MethodName) prog_59_method_22_code (2 : Nat) (Option.some (Jvm.ClassFile.FieldType.object "java/lang/Object"))) ∈ lw_all := lw_g (lw_at lw_m6 38 rfl) rfl
theorem q1354 : (Jvm.Cond.methodLink "java/util/LinkedList" (90 : Nat) ({ cls := "java/util/LinkedList", name := "checkElementIndex", desc := "(I)V" } : Jvm.MethodName)) ∈ lw_all := lw_g (lw_at lw_m6 39 rfl) rfl
theorem q1355 : (Jvm.Cond.privateMethod ({ cls := "java/util/LinkedList", name := "checkElementIndex", desc := "(I)V" } : Jvm.MethodName)) ∈ lw_tbl := lw_at lw_m6 40 rfl
theorem q1356 : (Jvm.Cond.instanceMethod ({ cls := "java/util/LinkedList", name := "checkElementIndex", desc := "(I)V" } : Jvm.MethodName)) ∈ lw_all := lw_g (lw_at lw_m6 41 rfl) rfl
theorem q1357 : (Jvm.Cond.code ({ cls := "java/util/LinkedList", name := "checkElementIndex", desc := "(I)V" } : Jvm.MethodName) prog_59_method_29_code (2 : Nat) (Option.none : Option Jvm.ClassFile.FieldType)) ∈ lw_all := lw_g (lw_at lw_m6 42 rfl) rfl
theorem q1358 : (Jvm.Cond.methodLink "java/util/LinkedList" (115 : Nat) ({ cls := "java/util/LinkedList", name := "isElementIndex", desc := "(I)Z" } : Jvm.MethodName)) ∈ lw_all := lw_g (lw_at lw_m6 43 rfl) rfl
theorem q1359 : (Jvm.Cond.privateMethod ({ cls := "java/util/LinkedList", name := "isElementIndex", desc := "(I)Z" } : Jvm.MethodName)) ∈ lw_tbl := lw_at lw_m6 44 rfl
theorem q1360 : (Jvm.Cond.instanceMethod ({ cls := "java/util/LinkedList", name := "isElementIndex", desc := "(I)Z" } : Jvm.MethodName)) ∈ lw_all := lw_g (lw_at lw_m6 45 rfl) rfl
theorem q1361 : (Jvm.Cond.code ({ cls := "java/util/LinkedList", name := "isElementIndex", desc := "(I)Z" } : Jvm.MethodName) prog_59_method_26_code (2 : Nat) (Option.some Jvm.ClassFile.FieldType.boolean)) ∈ lw_all := lw_g (lw_at lw_m6 46 rfl) rfl
theorem q1362 : (Jvm.Cond.methodLink "java/util/LinkedList" (86 : Nat) ({ cls := "java/util/LinkedList", name := "node", desc := "(I)Ljava/util/LinkedList$Node;" } : Jvm.MethodName)) ∈ lw_all := lw_g (lw_at lw_m6 47 rfl) rfl
theorem q1461 : (Jvm.Cond.instanceMethod ({ cls := "java/util/LinkedList", name := "add", desc := "(Ljava/lang/Object;)Z" } : Jvm.MethodName)) ∈ lw_all := lw_g (lw_at lw_m6 146 rfl) rfl
theorem q1462 : (Jvm.Cond.selects "java/util/LinkedList" ({ cls := "java/util/LinkedList", name := "add", desc := "(Ljava/lang/Object;)Z" } : Jvm.MethodName) ({ cls := "java/util/LinkedList", name := "add", desc := "(Ljava/lang/Object;)Z" } : Jvm.MethodName)) ∈ lw_all := lw_g (lw_at lw_m6 147 rfl) rfl
theorem q1463 : (Jvm.Cond.code ({ cls := "java/util/LinkedList", name := "add", desc := "(Ljava/lang/Object;)Z" } : Jvm.MethodName) prog_59_method_17_code (2 : Nat) (Option.some Jvm.ClassFile.FieldType.boolean)) ∈ lw_all := lw_g (lw_at lw_m6 148 rfl) rfl
theorem q1464 : (Jvm.Cond.methodLink "java/util/LinkedList" (57 : Nat) ({ cls := "java/util/LinkedList", name := "linkLast", desc := "(Ljava/lang/Object;)V" } : Jvm.MethodName)) ∈ lw_all := lw_g (lw_at lw_m6 149 rfl) rfl
theorem q1465 : (Jvm.Cond.instanceMethod ({ cls := "java/util/LinkedList", name := "linkLast", desc := "(Ljava/lang/Object;)V" } : Jvm.MethodName)) ∈ lw_all := lw_g (lw_at lw_m6 150 rfl) rfl
theorem q1466 : (Jvm.Cond.selects "java/util/LinkedList" ({ cls := "java/util/LinkedList", name := "linkLast", desc := "(Ljava/lang/Object;)V" } : Jvm.MethodName) ({ cls := "java/util/LinkedList", name := "linkLast", desc := "(Ljava/lang/Object;)V" } : Jvm.MethodName)) ∈ lw_all := lw_g (lw_at lw_m6 151 rfl) rfl
theorem q1467 : (Jvm.Cond.code ({ cls := "java/util/LinkedList", name := "linkLast", desc := "(Ljava/lang/Object;)V" } : Jvm.MethodName) prog_59_method_4_code (4 : Nat) (Option.none : Option Jvm.ClassFile.FieldType)) ∈ lw_all := lw_g (lw_at lw_m6 152 rfl) rfl
theorem q1468 : (Jvm.Cond.classLink "java/util/LinkedList" (22 : Nat) "java/util/LinkedList$Node") ∈ lw_all := lw_g (lw_at lw_m6 153 rfl) rfl
theorem q1470 : (Jvm.Cond.methodLink "java/util/LinkedList" (24 : Nat) ({ cls := "java/util/LinkedList$Node", name := "<init>", desc := "(Ljava/util/LinkedList$Node;Ljava/lang/Object;Ljava/util/LinkedList$Node;)V" } : Jvm.MethodName)) ∈ lw_all := lw_g (lw_at lw_m6 155 rfl) rfl
theorem q1476 : (Jvm.Cond.fieldLink "java/util/LinkedList" (39 : Nat) "java/util/LinkedList$Node" "item" "Ljava/lang/Object;") ∈ lw_all := lw_g (lw_at lw_m6 161 rfl) rfl
theorem q1479 : (Jvm.Cond.fieldLink "java/util/LinkedList" (36 : Nat) "java/util/LinkedList$Node" "next" "Ljava/util/LinkedList$Node;") ∈ lw_all := lw_g (lw_at lw_m6 164 rfl) rfl
theorem q1481 : (Jvm.Cond.fieldLink "java/util/LinkedList" (30 : Nat) "java/util/LinkedList$Node" "prev" "Ljava/util/LinkedList$Node;") ∈ lw_all := lw_g (lw_at lw_m6 166 rfl) rfl
theorem q1772 : (Jvm.Cond.selects "java/util/LinkedList" ({ cls := "java/util/AbstractList", name := "remove", desc := "(I)Ljava/lang/Object;" } : Jvm.MethodName) ({ cls := "java/util/LinkedList", name := "remove", desc := "(I)Ljava/lang/Object;" } : Jvm.MethodName)) ∈ lw_all := lw_g (lw_at lw_m7 217 rfl) rfl
theorem q1773 : (Jvm.Cond.instanceMethod ({ cls := "java/util/LinkedList", name := "remove", desc := "(I)Ljava/lang/Object;" } : Jvm.MethodName)) ∈ lw_all := lw_g (lw_at lw_m7 218 rfl) rfl
theorem q1774 : (Jvm.Cond.code ({ cls := "java/util/LinkedList", name := "remove", desc := "(I)Ljava/lang/Object;" } : Jvm.MethodName) prog_59_method_25_code (2 : Nat) (Option.some (Jvm.ClassFile.FieldType.object "java/lang/Object"))) ∈ lw_all := lw_g (lw_at lw_m7 219 rfl) rfl
theorem q1775 : (Jvm.Cond.methodLink "java/util/LinkedList" (64 : Nat) ({ cls := "java/util/LinkedList", name := "unlink", desc := "(Ljava/util/LinkedList$Node;)Ljava/lang/Object;" } : Jvm.MethodName)) ∈ lw_all := lw_g (lw_at lw_m7 220 rfl) rfl
theorem q1776 : (Jvm.Cond.instanceMethod ({ cls := "java/util/LinkedList", name := "unlink", desc := "(Ljava/util/LinkedList$Node;)Ljava/lang/Object;" } : Jvm.MethodName)) ∈ lw_all := lw_g (lw_at lw_m7 221 rfl) rfl
theorem q1777 : (Jvm.Cond.selects "java/util/LinkedList" ({ cls := "java/util/LinkedList", name := "unlink", desc := "(Ljava/util/LinkedList$Node;)Ljava/lang/Object;" } : Jvm.MethodName) ({ cls := "java/util/LinkedList", name := "unlink", desc := "(Ljava/util/LinkedList$Node;)Ljava/lang/Object;" } : Jvm.MethodName)) ∈ lw_all := lw_g (lw_at lw_m7 222 rfl) rfl
theorem q1778 : (Jvm.Cond.code ({ cls := "java/util/LinkedList", name := "unlink", desc := "(Ljava/util/LinkedList$Node;)Ljava/lang/Object;" } : Jvm.MethodName) prog_59_method_8_code (5 : Nat) (Option.some (Jvm.ClassFile.FieldType.object "java/lang/Object"))) ∈ lw_all := lw_g (lw_at lw_m7 223 rfl) rfl
theorem q1812 : (Jvm.Cond.instanceMethod ({ cls := "java/util/LinkedList", name := "add", desc := "(ILjava/lang/Object;)V" } : Jvm.MethodName)) ∈ lw_all := lw_g (lw_at lw_m8 17 rfl) rfl
theorem q1813 : (Jvm.Cond.selects "java/util/LinkedList" ({ cls := "java/util/LinkedList", name := "add", desc := "(ILjava/lang/Object;)V" } : Jvm.MethodName) ({ cls := "java/util/LinkedList", name := "add", desc := "(ILjava/lang/Object;)V" } : Jvm.MethodName)) ∈ lw_all := lw_g (lw_at lw_m8 18 rfl) rfl
theorem q1814 : (Jvm.Cond.code ({ cls := "java/util/LinkedList", name := "add", desc := "(ILjava/lang/Object;)V" } : Jvm.MethodName) prog_59_method_24_code (3 : Nat) (Option.none : Option Jvm.ClassFile.FieldType)) ∈ lw_all := lw_g (lw_at lw_m8 19 rfl) rfl
theorem q1815 : (Jvm.Cond.methodLink "java/util/LinkedList" (93 : Nat) ({ cls := "java/util/LinkedList", name := "linkBefore", desc := "(Ljava/lang/Object;Ljava/util/LinkedList$Node;)V" } : Jvm.MethodName)) ∈ lw_all := lw_g (lw_at lw_m8 20 rfl) rfl
theorem q1816 : (Jvm.Cond.instanceMethod ({ cls := "java/util/LinkedList", name := "linkBefore", desc := "(Ljava/lang/Object;Ljava/util/LinkedList$Node;)V" } : Jvm.MethodName)) ∈ lw_all := lw_g (lw_at lw_m8 21 rfl) rfl
theorem q1817 : (Jvm.Cond.selects "java/util/LinkedList" ({ cls := "java/util/LinkedList", name := "linkBefore", desc := "(Ljava/lang/Object;Ljava/util/LinkedList$Node;)V" } : Jvm.MethodName) ({ cls := "java/util/LinkedList", name := "linkBefore", desc := "(Ljava/lang/Object;Ljava/util/LinkedList$Node;)V" } : Jvm.MethodName)) ∈ lw_all := lw_g (lw_at lw_m8 22 rfl) rfl
theorem q1818 : (Jvm.Cond.code ({ cls := "java/util/LinkedList", name := "linkBefore", desc := "(Ljava/lang/Object;Ljava/util/LinkedList$Node;)V" } : Jvm.MethodName) prog_59_method_5_code (5 : Nat) (Option.none : Option Jvm.ClassFile.FieldType)) ∈ lw_all := lw_g (lw_at lw_m8 23 rfl) rfl
theorem q2846 : (Jvm.Cond.selects "java/util/LinkedList" ({ cls := "java/util/LinkedList", name := "get", desc := "(I)Ljava/lang/Object;" } : Jvm.MethodName) ({ cls := "java/util/LinkedList", name := "get", desc := "(I)Ljava/lang/Object;" } : Jvm.MethodName)) ∈ lw_all := lw_g (lw_at lw_m12 91 rfl) rfl
theorem q2847 : (Jvm.Cond.selects "java/util/LinkedList" ({ cls := "java/util/LinkedList", name := "contains", desc := "(Ljava/lang/Object;)Z" } : Jvm.MethodName) ({ cls := "java/util/LinkedList", name := "contains", desc := "(Ljava/lang/Object;)Z" } : Jvm.MethodName)) ∈ lw_all := lw_g (lw_at lw_m12 92 rfl) rfl
theorem q2855 : (Jvm.Cond.castable "java/util/LinkedList" "java/lang/Object") ∈ lw_tbl := lw_at lw_m12 100 rfl
theorem in_J3 : ∀ w ∈ wsJ30, w ∈ lw_all := lw_in wsJ30 [212, 206, 208, 210] (by decide +kernel) (by decide +kernel)
/-! java/util/NoSuchElementException -/
set_option maxRecDepth 100000
def RJ30 : String := "java/util/NoSuchElementException"
def TJ30 : u_T := fun k => match k with
  | 0 => ("java/lang/Throwable", "cause", "Ljava/lang/Throwable;", false)
  | 1 => ("java/lang/Throwable", "stackTrace", "[Ljava/lang/StackTraceElement;", false)
  | 2 => ("java/lang/Throwable", "suppressedExceptions", "Ljava/util/List;", false)
  | 3 => ("java/lang/Throwable", "detailMessage", "Ljava/lang/String;", false)
  | 4 => ("java/lang/Throwable", "backtrace", "Ljava/lang/Object;", false)
  | _ => ("java/lang/Throwable", "depth", "I", false)
def tyJ30 : Nat → FieldType := fun k => match k with
  | 0 => .object "java/lang/Throwable"
  | 1 => .array (.object "java/lang/StackTraceElement")
  | 2 => .object "java/util/List"
  | 3 => .object "java/lang/String"
  | 4 => .object "java/lang/Object"
  | _ => .int
abbrev wsJ300 : List Cond := u_ws RJ30 TJ30 6
theorem nmJ30 : ∀ a, a < 6 → ∀ b, b < 6 → a ≠ b → (TJ30 a).2.1 ≠ (TJ30 b).2.1 := by decide +kernel
theorem tyJ30_ok : ∀ k, k < 6 → parseFieldDescriptor (TJ30 k).2.2.1 = some (tyJ30 k) := by decide +kernel
abbrev cJ30_init : ByteArray := prog_64_method_1_code
def yJ30_init : MethodName := ⟨RJ30, "<init>", "()V"⟩
theorem dJ30_init_0 : decode cJ30_init 0 = .ok (.aload_n 0, 1) := by decide +kernel
theorem dJ30_init_1 : decode cJ30_init 1 = .ok (.invokespecial 1, 3) := by decide +kernel
theorem dJ30_init_4 : decode cJ30_init 4 = .ok (.return_, 1) := by decide +kernel
abbrev cJ30_init_2 : ByteArray := prog_64_method_3_code
def yJ30_init_2 : MethodName := ⟨RJ30, "<init>", "(Ljava/lang/Throwable;)V"⟩
def dkwJ30_init_2_0 : List UInt8 := [42, 43, 183, 0, 10, 177]
abbrev dktJ30_init_2_0 : List UInt8 := dkwJ30_init_2_0 ++ []
theorem dksJ30_init_2_0 : cJ30_init_2.data.toList.drop 0 = dktJ30_init_2_0 := by decide +kernel
theorem dJ30_init_2_0 : decode cJ30_init_2 0 = .ok (.aload_n 0, 1) := dk_42 (dk_at dksJ30_init_2_0 0 rfl rfl)
theorem dJ30_init_2_1 : decode cJ30_init_2 1 = .ok (.aload_n 1, 1) := dk_43 (dk_at dksJ30_init_2_0 1 rfl rfl)
theorem dJ30_init_2_2 : decode cJ30_init_2 2 = .ok (.invokespecial 10, 3) := dk_183 0 10 (dk_at dksJ30_init_2_0 2 rfl rfl)
theorem dJ30_init_2_5 : decode cJ30_init_2 5 = .ok (.return_, 1) := dk_177 (dk_at dksJ30_init_2_0 5 rfl rfl)
theorem q157 : (Jvm.Cond.initialized "java/util/NoSuchElementException") ∈ lw_all := lw_g (lw_at lw_m1 42 rfl) rfl
theorem q349 : (Jvm.Cond.instantiable "java/util/NoSuchElementException" (6 : Nat)) ∈ lw_all := lw_g (lw_at lw_m1 234 rfl) rfl
theorem q350 : (Jvm.Cond.castable "java/util/NoSuchElementException" "java/util/NoSuchElementException") ∈ lw_tbl := lw_at lw_m1 235 rfl
theorem q357 : (Jvm.Cond.selects "java/util/NoSuchElementException" ({ cls := "java/lang/Throwable", name := "fillInStackTrace", desc := "(I)Ljava/lang/Throwable;" } : Jvm.MethodName) ({ cls := "java/lang/Throwable", name := "fillInStackTrace", desc := "(I)Ljava/lang/Throwable;" } : Jvm.MethodName)) ∈ lw_all := lw_g (lw_at lw_m2 2 rfl) rfl
theorem q358 : (Jvm.Cond.selects "java/util/NoSuchElementException" ({ cls := "java/lang/Throwable", name := "fillInStackTrace", desc := "()Ljava/lang/Throwable;" } : Jvm.MethodName) ({ cls := "java/lang/Throwable", name := "fillInStackTrace", desc := "()Ljava/lang/Throwable;" } : Jvm.MethodName)) ∈ lw_all := lw_g (lw_at lw_m2 3 rfl) rfl
theorem q359 : (Jvm.Cond.lays "java/util/NoSuchElementException" "java/lang/Throwable" "cause" "Ljava/lang/Throwable;") ∈ lw_all := lw_g (lw_at lw_m2 4 rfl) rfl
theorem q361 : (Jvm.Cond.lays "java/util/NoSuchElementException" "java/lang/Throwable" "stackTrace" "[Ljava/lang/StackTraceElement;") ∈ lw_all := lw_g (lw_at lw_m2 6 rfl) rfl
theorem q363 : (Jvm.Cond.lays "java/util/NoSuchElementException" "java/lang/Throwable" "suppressedExceptions" "Ljava/util/List;") ∈ lw_all := lw_g (lw_at lw_m2 8 rfl) rfl
theorem q365 : (Jvm.Cond.lays "java/util/NoSuchElementException" "java/lang/Throwable" "detailMessage" "Ljava/lang/String;") ∈ lw_all := lw_g (lw_at lw_m2 10 rfl) rfl
theorem q367 : (Jvm.Cond.lays "java/util/NoSuchElementException" "java/lang/Throwable" "backtrace" "Ljava/lang/Object;") ∈ lw_all := lw_g (lw_at lw_m2 12 rfl) rfl
theorem q394 : (Jvm.Cond.instanceMethod ({ cls := "java/util/NoSuchElementException", name := "<init>", desc := "()V" } : Jvm.MethodName)) ∈ lw_all := lw_g (lw_at lw_m2 39 rfl) rfl
theorem q395 : (Jvm.Cond.code ({ cls := "java/util/NoSuchElementException", name := "<init>", desc := "()V" } : Jvm.MethodName) prog_64_method_1_code (1 : Nat) (Option.none : Option Jvm.ClassFile.FieldType)) ∈ lw_all := lw_g (lw_at lw_m2 40 rfl) rfl
theorem q396 : (Jvm.Cond.methodLink "java/util/NoSuchElementException" (1 : Nat) ({ cls := "java/lang/RuntimeException", name := "<init>", desc := "()V" } : Jvm.MethodName)) ∈ lw_all := lw_g (lw_at lw_m2 41 rfl) rfl
theorem q412 : (Jvm.Cond.lays "java/util/NoSuchElementException" "java/lang/Throwable" "depth" "I") ∈ lw_all := lw_g (lw_at lw_m2 57 rfl) rfl
theorem q415 : (Jvm.Cond.superclass "java/util/NoSuchElementException" "java/lang/RuntimeException") ∈ lw_all := lw_g (lw_at lw_m2 60 rfl) rfl
theorem q692 : (Jvm.Cond.selects "java/util/NoSuchElementException" ({ cls := "java/lang/Object", name := "getClass", desc := "()Ljava/lang/Class;" } : Jvm.MethodName) ({ cls := "java/lang/Object", name := "getClass", desc := "()Ljava/lang/Class;" } : Jvm.MethodName)) ∈ lw_all := lw_g (lw_at lw_m3 97 rfl) rfl
theorem q1365 : (Jvm.Cond.instanceMethod ({ cls := "java/util/NoSuchElementException", name := "<init>", desc := "(Ljava/lang/Throwable;)V" } : Jvm.MethodName)) ∈ lw_all := lw_g (lw_at lw_m6 50 rfl) rfl
theorem q1366 : (Jvm.Cond.code ({ cls := "java/util/NoSuchElementException", name := "<init>", desc := "(Ljava/lang/Throwable;)V" } : Jvm.MethodName) prog_64_method_3_code (2 : Nat) (Option.none : Option Jvm.ClassFile.FieldType)) ∈ lw_all := lw_g (lw_at lw_m6 51 rfl) rfl
theorem q1367 : (Jvm.Cond.methodLink "java/util/NoSuchElementException" (10 : Nat) ({ cls := "java/lang/RuntimeException", name := "<init>", desc := "(Ljava/lang/Throwable;)V" } : Jvm.MethodName)) ∈ lw_all := lw_g (lw_at lw_m6 52 rfl) rfl
theorem q1385 : (Jvm.Cond.selects "java/util/NoSuchElementException" ({ cls := "java/lang/Throwable", name := "toString", desc := "()Ljava/lang/String;" } : Jvm.MethodName) ({ cls := "java/lang/Throwable", name := "toString", desc := "()Ljava/lang/String;" } : Jvm.MethodName)) ∈ lw_all := lw_g (lw_at lw_m6 70 rfl) rfl
theorem q1397 : (Jvm.Cond.selects "java/util/NoSuchElementException" ({ cls := "java/lang/Throwable", name := "getLocalizedMessage", desc := "()Ljava/lang/String;" } : Jvm.MethodName) ({ cls := "java/lang/Throwable", name := "getLocalizedMessage", desc := "()Ljava/lang/String;" } : Jvm.MethodName)) ∈ lw_all := lw_g (lw_at lw_m6 82 rfl) rfl
theorem q1408 : (Jvm.Cond.selects "java/util/NoSuchElementException" ({ cls := "java/lang/Throwable", name := "getMessage", desc := "()Ljava/lang/String;" } : Jvm.MethodName) ({ cls := "java/lang/Throwable", name := "getMessage", desc := "()Ljava/lang/String;" } : Jvm.MethodName)) ∈ lw_all := lw_g (lw_at lw_m6 93 rfl) rfl
theorem q2872 : (Jvm.Cond.castable "java/util/NoSuchElementException" "java/lang/Object") ∈ lw_tbl := lw_at lw_m12 117 rfl
theorem in_J30 : ∀ w ∈ wsJ300, w ∈ lw_all := lw_in wsJ300 [359, 361, 363, 365, 367, 412] (by decide +kernel) (by decide +kernel)
/-! java/util/LinkedList$Node -/
set_option maxRecDepth 100000
def RJ31 : String := "java/util/LinkedList$Node"
def TJ31 : u_T := fun k => match k with
  | 0 => ("java/util/LinkedList$Node", "item", "Ljava/lang/Object;", false)
  | 1 => ("java/util/LinkedList$Node", "next", "Ljava/util/LinkedList$Node;", false)
  | _ => ("java/util/LinkedList$Node", "prev", "Ljava/util/LinkedList$Node;", false)
def tyJ31 : Nat → FieldType := fun k => match k with
  | 0 => .object "java/lang/Object"
  | 1 => .object "java/util/LinkedList$Node"
  | _ => .object "java/util/LinkedList$Node"
abbrev wsJ310 : List Cond := u_ws RJ31 TJ31 3
theorem nmJ31 : ∀ a, a < 3 → ∀ b, b < 3 → a ≠ b → (TJ31 a).2.1 ≠ (TJ31 b).2.1 := by decide +kernel
theorem tyJ31_ok : ∀ k, k < 3 → parseFieldDescriptor (TJ31 k).2.2.1 = some (tyJ31 k) := by decide +kernel
abbrev cJ31_init : ByteArray := prog_61_method_1_code
def yJ31_init : MethodName := ⟨RJ31, "<init>", "(Ljava/util/LinkedList$Node;Ljava/lang/Object;Ljava/util/LinkedList$Node;)V"⟩
def dkwJ31_init_0 : List UInt8 := [42, 183, 0, 1, 42, 44, 181, 0, 7, 42, 45, 181, 0, 13, 42, 43, 181, 0, 17, 177]
abbrev dktJ31_init_0 : List UInt8 := dkwJ31_init_0 ++ []
theorem dksJ31_init_0 : cJ31_init.data.toList.drop 0 = dktJ31_init_0 := by decide +kernel
theorem dJ31_init_0 : decode cJ31_init 0 = .ok (.aload_n 0, 1) := dk_42 (dk_at dksJ31_init_0 0 rfl rfl)
theorem dJ31_init_1 : decode cJ31_init 1 = .ok (.invokespecial 1, 3) := dk_183 0 1 (dk_at dksJ31_init_0 1 rfl rfl)
theorem dJ31_init_4 : decode cJ31_init 4 = .ok (.aload_n 0, 1) := dk_42 (dk_at dksJ31_init_0 4 rfl rfl)
theorem dJ31_init_5 : decode cJ31_init 5 = .ok (.aload_n 2, 1) := dk_44 (dk_at dksJ31_init_0 5 rfl rfl)
theorem dJ31_init_6 : decode cJ31_init 6 = .ok (.putfield 7, 3) := dk_181 0 7 (dk_at dksJ31_init_0 6 rfl rfl)
theorem dJ31_init_9 : decode cJ31_init 9 = .ok (.aload_n 0, 1) := dk_42 (dk_at dksJ31_init_0 9 rfl rfl)
theorem dJ31_init_10 : decode cJ31_init 10 = .ok (.aload_n 3, 1) := dk_45 (dk_at dksJ31_init_0 10 rfl rfl)
theorem dJ31_init_11 : decode cJ31_init 11 = .ok (.putfield 13, 3) := dk_181 0 13 (dk_at dksJ31_init_0 11 rfl rfl)
theorem dJ31_init_14 : decode cJ31_init 14 = .ok (.aload_n 0, 1) := dk_42 (dk_at dksJ31_init_0 14 rfl rfl)
theorem dJ31_init_15 : decode cJ31_init 15 = .ok (.aload_n 1, 1) := dk_43 (dk_at dksJ31_init_0 15 rfl rfl)
theorem dJ31_init_16 : decode cJ31_init 16 = .ok (.putfield 17, 3) := dk_181 0 17 (dk_at dksJ31_init_0 16 rfl rfl)
theorem dJ31_init_19 : decode cJ31_init 19 = .ok (.return_, 1) := dk_177 (dk_at dksJ31_init_0 19 rfl rfl)
theorem q158 : (Jvm.Cond.initialized "java/util/LinkedList$Node") ∈ lw_all := lw_g (lw_at lw_m1 43 rfl) rfl
theorem q691 : (Jvm.Cond.selects "java/util/LinkedList$Node" ({ cls := "java/lang/Object", name := "getClass", desc := "()Ljava/lang/Class;" } : Jvm.MethodName) ({ cls := "java/lang/Object", name := "getClass", desc := "()Ljava/lang/Class;" } : Jvm.MethodName)) ∈ lw_all := lw_g (lw_at lw_m3 96 rfl) rfl
theorem q1469 : (Jvm.Cond.instantiable "java/util/LinkedList$Node" (3 : Nat)) ∈ lw_all := lw_g (lw_at lw_m6 154 rfl) rfl
theorem q1471 : (Jvm.Cond.instanceMethod ({ cls := "java/util/LinkedList$Node", name := "<init>", desc := "(Ljava/util/LinkedList$Node;Ljava/lang/Object;Ljava/util/LinkedList$Node;)V" } : Jvm.MethodName)) ∈ lw_all := lw_g (lw_at lw_m6 156 rfl) rfl
theorem q1472 : (Jvm.Cond.code ({ cls := "java/util/LinkedList$Node", name := "<init>", desc := "(Ljava/util/LinkedList$Node;Ljava/lang/Object;Ljava/util/LinkedList$Node;)V" } : Jvm.MethodName) prog_61_method_1_code (4 : Nat) (Option.none : Option Jvm.ClassFile.FieldType)) ∈ lw_all := lw_g (lw_at lw_m6 157 rfl) rfl
theorem q1473 : (Jvm.Cond.methodLink "java/util/LinkedList$Node" (1 : Nat) ({ cls := "java/lang/Object", name := "<init>", desc := "()V" } : Jvm.MethodName)) ∈ lw_all := lw_g (lw_at lw_m6 158 rfl) rfl
theorem q1474 : (Jvm.Cond.fieldLink "java/util/LinkedList$Node" (7 : Nat) "java/util/LinkedList$Node" "item" "Ljava/lang/Object;") ∈ lw_all := lw_g (lw_at lw_m6 159 rfl) rfl
theorem q1477 : (Jvm.Cond.fieldLink "java/util/LinkedList$Node" (13 : Nat) "java/util/LinkedList$Node" "next" "Ljava/util/LinkedList$Node;") ∈ lw_all := lw_g (lw_at lw_m6 162 rfl) rfl
theorem q1480 : (Jvm.Cond.fieldLink "java/util/LinkedList$Node" (17 : Nat) "java/util/LinkedList$Node" "prev" "Ljava/util/LinkedList$Node;") ∈ lw_all := lw_g (lw_at lw_m6 165 rfl) rfl
theorem q1482 : (Jvm.Cond.lays "java/util/LinkedList$Node" "java/util/LinkedList$Node" "item" "Ljava/lang/Object;") ∈ lw_all := lw_g (lw_at lw_m6 167 rfl) rfl
theorem q1483 : (Jvm.Cond.soleField "java/util/LinkedList$Node" "item") ∈ lw_all := lw_g (lw_at lw_m6 168 rfl) rfl
theorem q1484 : (Jvm.Cond.lays "java/util/LinkedList$Node" "java/util/LinkedList$Node" "next" "Ljava/util/LinkedList$Node;") ∈ lw_all := lw_g (lw_at lw_m6 169 rfl) rfl
theorem q1485 : (Jvm.Cond.soleField "java/util/LinkedList$Node" "next") ∈ lw_all := lw_g (lw_at lw_m6 170 rfl) rfl
theorem q1486 : (Jvm.Cond.lays "java/util/LinkedList$Node" "java/util/LinkedList$Node" "prev" "Ljava/util/LinkedList$Node;") ∈ lw_all := lw_g (lw_at lw_m6 171 rfl) rfl
theorem q1487 : (Jvm.Cond.soleField "java/util/LinkedList$Node" "prev") ∈ lw_all := lw_g (lw_at lw_m6 172 rfl) rfl
theorem q1488 : (Jvm.Cond.superclass "java/util/LinkedList$Node" "java/lang/Object") ∈ lw_all := lw_g (lw_at lw_m6 173 rfl) rfl
theorem q2873 : (Jvm.Cond.castable "java/util/LinkedList$Node" "java/lang/Object") ∈ lw_tbl := lw_at lw_m12 118 rfl
theorem in_J31 : ∀ w ∈ wsJ310, w ∈ lw_all := lw_in wsJ310 [1482, 1484, 1486] (by decide +kernel) (by decide +kernel)
/-! java/lang/IllegalStateException -/
set_option maxRecDepth 100000
def RJ32 : String := "java/lang/IllegalStateException"
def TJ32 : u_T := fun k => match k with
  | 0 => ("java/lang/Throwable", "cause", "Ljava/lang/Throwable;", false)
  | 1 => ("java/lang/Throwable", "stackTrace", "[Ljava/lang/StackTraceElement;", false)
  | 2 => ("java/lang/Throwable", "suppressedExceptions", "Ljava/util/List;", false)
  | 3 => ("java/lang/Throwable", "detailMessage", "Ljava/lang/String;", false)
  | 4 => ("java/lang/Throwable", "backtrace", "Ljava/lang/Object;", false)
  | _ => ("java/lang/Throwable", "depth", "I", false)
def tyJ32 : Nat → FieldType := fun k => match k with
  | 0 => .object "java/lang/Throwable"
  | 1 => .array (.object "java/lang/StackTraceElement")
  | 2 => .object "java/util/List"
  | 3 => .object "java/lang/String"
  | 4 => .object "java/lang/Object"
  | _ => .int
abbrev wsJ320 : List Cond := u_ws RJ32 TJ32 6
theorem nmJ32 : ∀ a, a < 6 → ∀ b, b < 6 → a ≠ b → (TJ32 a).2.1 ≠ (TJ32 b).2.1 := by decide +kernel
theorem tyJ32_ok : ∀ k, k < 6 → parseFieldDescriptor (TJ32 k).2.2.1 = some (tyJ32 k) := by decide +kernel
abbrev cJ32_init : ByteArray := prog_23_method_2_code
def yJ32_init : MethodName := ⟨RJ32, "<init>", "(Ljava/lang/String;)V"⟩
def dkwJ32_init_0 : List UInt8 := [42, 43, 183, 0, 7, 177]
abbrev dktJ32_init_0 : List UInt8 := dkwJ32_init_0 ++ []
theorem dksJ32_init_0 : cJ32_init.data.toList.drop 0 = dktJ32_init_0 := by decide +kernel
theorem dJ32_init_0 : decode cJ32_init 0 = .ok (.aload_n 0, 1) := dk_42 (dk_at dksJ32_init_0 0 rfl rfl)
theorem dJ32_init_1 : decode cJ32_init 1 = .ok (.aload_n 1, 1) := dk_43 (dk_at dksJ32_init_0 1 rfl rfl)
theorem dJ32_init_2 : decode cJ32_init 2 = .ok (.invokespecial 7, 3) := dk_183 0 7 (dk_at dksJ32_init_0 2 rfl rfl)
theorem dJ32_init_5 : decode cJ32_init 5 = .ok (.return_, 1) := dk_177 (dk_at dksJ32_init_0 5 rfl rfl)
abbrev cJ32_init_2 : ByteArray := prog_23_method_1_code
def yJ32_init_2 : MethodName := ⟨RJ32, "<init>", "()V"⟩
theorem dJ32_init_2_0 : decode cJ32_init_2 0 = .ok (.aload_n 0, 1) := by decide +kernel
theorem dJ32_init_2_1 : decode cJ32_init_2 1 = .ok (.invokespecial 1, 3) := by decide +kernel
theorem dJ32_init_2_4 : decode cJ32_init_2 4 = .ok (.return_, 1) := by decide +kernel
theorem q160 : (Jvm.Cond.initialized "java/lang/IllegalStateException") ∈ lw_all := lw_g (lw_at lw_m1 45 rfl) rfl
theorem q384 : (Jvm.Cond.selects "java/lang/IllegalStateException" ({ cls := "java/lang/Throwable", name := "fillInStackTrace", desc := "()Ljava/lang/Throwable;" } : Jvm.MethodName) ({ cls := "java/lang/Throwable", name := "fillInStackTrace", desc := "()Ljava/lang/Throwable;" } : Jvm.MethodName)) ∈ lw_all := lw_g (lw_at lw_m2 29 rfl) rfl
theorem q677 : (Jvm.Cond.selects "java/lang/IllegalStateException" ({ cls := "java/lang/Object", name := "getClass", desc := "()Ljava/lang/Class;" } : Jvm.MethodName) ({ cls := "java/lang/Object", name := "getClass", desc := "()Ljava/lang/Class;" } : Jvm.MethodName)) ∈ lw_all := lw_g (lw_at lw_m3 82 rfl) rfl
theorem q1196 : (Jvm.Cond.selects "java/lang/IllegalStateException" ({ cls := "java/lang/Object", name := "equals", desc := "(Ljava/lang/Object;)Z" } : Jvm.MethodName) ({ cls := "java/lang/Object", name := "equals", desc := "(Ljava/lang/Object;)Z" } : Jvm.MethodName)) ∈ lw_all := lw_g (lw_at lw_m5 121 rfl) rfl
theorem q1382 : (Jvm.Cond.selects "java/lang/IllegalStateException" ({ cls := "java/lang/Throwable", name := "toString", desc := "()Ljava/lang/String;" } : Jvm.MethodName) ({ cls := "java/lang/Throwable", name := "toString", desc := "()Ljava/lang/String;" } : Jvm.MethodName)) ∈ lw_all := lw_g (lw_at lw_m6 67 rfl) rfl
theorem q1394 : (Jvm.Cond.selects "java/lang/IllegalStateException" ({ cls := "java/lang/Throwable", name := "getLocalizedMessage", desc := "()Ljava/lang/String;" } : Jvm.MethodName) ({ cls := "java/lang/Throwable", name := "getLocalizedMessage", desc := "()Ljava/lang/String;" } : Jvm.MethodName)) ∈ lw_all := lw_g (lw_at lw_m6 79 rfl) rfl
theorem q1405 : (Jvm.Cond.selects "java/lang/IllegalStateException" ({ cls := "java/lang/Throwable", name := "getMessage", desc := "()Ljava/lang/String;" } : Jvm.MethodName) ({ cls := "java/lang/Throwable", name := "getMessage", desc := "()Ljava/lang/String;" } : Jvm.MethodName)) ∈ lw_all := lw_g (lw_at lw_m6 90 rfl) rfl
theorem q1571 : (Jvm.Cond.instantiable "java/lang/IllegalStateException" (6 : Nat)) ∈ lw_all := lw_g (lw_at lw_m7 16 rfl) rfl
theorem q1572 : (Jvm.Cond.castable "java/lang/IllegalStateException" "java/lang/IllegalStateException") ∈ lw_tbl := lw_at lw_m7 17 rfl
theorem q1573 : (Jvm.Cond.selects "java/lang/IllegalStateException" ({ cls := "java/lang/Throwable", name := "fillInStackTrace", desc := "(I)Ljava/lang/Throwable;" } : Jvm.MethodName) ({ cls := "java/lang/Throwable", name := "fillInStackTrace", desc := "(I)Ljava/lang/Throwable;" } : Jvm.MethodName)) ∈ lw_all := lw_g (lw_at lw_m7 18 rfl) rfl
theorem q1574 : (Jvm.Cond.lays "java/lang/IllegalStateException" "java/lang/Throwable" "cause" "Ljava/lang/Throwable;") ∈ lw_all := lw_g (lw_at lw_m7 19 rfl) rfl
theorem q1575 : (Jvm.Cond.lays "java/lang/IllegalStateException" "java/lang/Throwable" "stackTrace" "[Ljava/lang/StackTraceElement;") ∈ lw_all := lw_g (lw_at lw_m7 20 rfl) rfl
theorem q1576 : (Jvm.Cond.lays "java/lang/IllegalStateException" "java/lang/Throwable" "suppressedExceptions" "Ljava/util/List;") ∈ lw_all := lw_g (lw_at lw_m7 21 rfl) rfl
theorem q1577 : (Jvm.Cond.lays "java/lang/IllegalStateException" "java/lang/Throwable" "detailMessage" "Ljava/lang/String;") ∈ lw_all := lw_g (lw_at lw_m7 22 rfl) rfl
theorem q1578 : (Jvm.Cond.lays "java/lang/IllegalStateException" "java/lang/Throwable" "backtrace" "Ljava/lang/Object;") ∈ lw_all := lw_g (lw_at lw_m7 23 rfl) rfl
theorem q1581 : (Jvm.Cond.instanceMethod ({ cls := "java/lang/IllegalStateException", name := "<init>", desc := "(Ljava/lang/String;)V" } : Jvm.MethodName)) ∈ lw_all := lw_g (lw_at lw_m7 26 rfl) rfl
theorem q1582 : (Jvm.Cond.code ({ cls := "java/lang/IllegalStateException", name := "<init>", desc := "(Ljava/lang/String;)V" } : Jvm.MethodName) prog_23_method_2_code (2 : Nat) (Option.none : Option Jvm.ClassFile.FieldType)) ∈ lw_all := lw_g (lw_at lw_m7 27 rfl) rfl
theorem q1583 : (Jvm.Cond.methodLink "java/lang/IllegalStateException" (7 : Nat) ({ cls := "java/lang/RuntimeException", name := "<init>", desc := "(Ljava/lang/String;)V" } : Jvm.MethodName)) ∈ lw_all := lw_g (lw_at lw_m7 28 rfl) rfl
theorem q1584 : (Jvm.Cond.lays "java/lang/IllegalStateException" "java/lang/Throwable" "depth" "I") ∈ lw_all := lw_g (lw_at lw_m7 29 rfl) rfl
theorem q1585 : (Jvm.Cond.superclass "java/lang/IllegalStateException" "java/lang/RuntimeException") ∈ lw_all := lw_g (lw_at lw_m7 30 rfl) rfl
theorem q1625 : (Jvm.Cond.instanceMethod ({ cls := "java/lang/IllegalStateException", name := "<init>", desc := "()V" } : Jvm.MethodName)) ∈ lw_all := lw_g (lw_at lw_m7 70 rfl) rfl
theorem q1626 : (Jvm.Cond.code ({ cls := "java/lang/IllegalStateException", name := "<init>", desc := "()V" } : Jvm.MethodName) prog_23_method_1_code (1 : Nat) (Option.none : Option Jvm.ClassFile.FieldType)) ∈ lw_all := lw_g (lw_at lw_m7 71 rfl) rfl
theorem q1627 : (Jvm.Cond.methodLink "java/lang/IllegalStateException" (1 : Nat) ({ cls := "java/lang/RuntimeException", name := "<init>", desc := "()V" } : Jvm.MethodName)) ∈ lw_all := lw_g (lw_at lw_m7 72 rfl) rfl
theorem q2874 : (Jvm.Cond.castable "java/lang/IllegalStateException" "java/lang/Object") ∈ lw_tbl := lw_at lw_m12 119 rfl
theorem in_J32 : ∀ w ∈ wsJ320, w ∈ lw_all := lw_in wsJ320 [1574, 1575, 1576, 1577, 1578, 1584] (by decide +kernel) (by decide +kernel)
/-! java/util/BitSet -/
set_option maxRecDepth 100000
def RJ33 : String := "java/util/BitSet"
def TJ33 : u_T := fun k => match k with
  | 0 => ("java/util/BitSet", "words", "[J", false)
  | 1 => ("java/util/BitSet", "wordsInUse", "I", false)
  | _ => ("java/util/BitSet", "sizeIsSticky", "Z", false)
def tyJ33 : Nat → FieldType := fun k => match k with
  | 0 => .array .long
  | 1 => .int
  | _ => .boolean
abbrev wsJ330 : List Cond := u_ws RJ33 TJ33 3
theorem nmJ33 : ∀ a, a < 3 → ∀ b, b < 3 → a ≠ b → (TJ33 a).2.1 ≠ (TJ33 b).2.1 := by decide +kernel
theorem tyJ33_ok : ∀ k, k < 3 → parseFieldDescriptor (TJ33 k).2.2.1 = some (tyJ33 k) := by decide +kernel
abbrev cJ33_init : ByteArray := prog_49_method_4_code
def yJ33_init : MethodName := ⟨RJ33, "<init>", "()V"⟩
def dkwJ33_init_1 : List UInt8 := [181, 0, 24, 177]
abbrev dktJ33_init_1 : List UInt8 := dkwJ33_init_1 ++ []
def dkwJ33_init_0 : List UInt8 := [42, 183, 0, 21, 42, 3, 181, 0, 7, 42, 3, 181, 0, 24, 42, 16, 64, 182, 0, 27, 42, 3]
abbrev dktJ33_init_0 : List UInt8 := dkwJ33_init_0 ++ dktJ33_init_1
theorem dksJ33_init_0 : cJ33_init.data.toList.drop 0 = dktJ33_init_0 := by decide +kernel
theorem dksJ33_init_1 : cJ33_init.data.toList.drop 22 = dktJ33_init_1 := dk_seg dksJ33_init_0 22 rfl rfl
theorem dJ33_init_0 : decode cJ33_init 0 = .ok (.aload_n 0, 1) := dk_42 (dk_at dksJ33_init_0 0 rfl rfl)
theorem dJ33_init_1 : decode cJ33_init 1 = .ok (.invokespecial 21, 3) := dk_183 0 21 (dk_at dksJ33_init_0 1 rfl rfl)
theorem dJ33_init_4 : decode cJ33_init 4 = .ok (.aload_n 0, 1) := dk_42 (dk_at dksJ33_init_0 4 rfl rfl)
theorem dJ33_init_5 : decode cJ33_init 5 = .ok (.iconst 0, 1) := dk_3 (dk_at dksJ33_init_0 5 rfl rfl)
theorem dJ33_init_6 : decode cJ33_init 6 = .ok (.putfield 7, 3) := dk_181 0 7 (dk_at dksJ33_init_0 6 rfl rfl)
theorem dJ33_init_9 : decode cJ33_init 9 = .ok (.aload_n 0, 1) := dk_42 (dk_at dksJ33_init_0 9 rfl rfl)
theorem dJ33_init_10 : decode cJ33_init 10 = .ok (.iconst 0, 1) := dk_3 (dk_at dksJ33_init_0 10 rfl rfl)
theorem dJ33_init_11 : decode cJ33_init 11 = .ok (.putfield 24, 3) := dk_181 0 24 (dk_at dksJ33_init_0 11 rfl rfl)
theorem dJ33_init_14 : decode cJ33_init 14 = .ok (.aload_n 0, 1) := dk_42 (dk_at dksJ33_init_0 14 rfl rfl)
theorem dJ33_init_15 : decode cJ33_init 15 = .ok (.bipush 64, 2) := dk_16 64 (dk_at dksJ33_init_0 15 rfl rfl)
theorem dJ33_init_17 : decode cJ33_init 17 = .ok (.invokevirtual 27, 3) := dk_182 0 27 (dk_at dksJ33_init_0 17 rfl rfl)
theorem dJ33_init_20 : decode cJ33_init 20 = .ok (.aload_n 0, 1) := dk_42 (dk_at dksJ33_init_0 20 rfl rfl)
theorem dJ33_init_21 : decode cJ33_init 21 = .ok (.iconst 0, 1) := dk_3 (dk_at dksJ33_init_0 21 rfl rfl)
theorem dJ33_init_22 : decode cJ33_init 22 = .ok (.putfield 24, 3) := dk_181 0 24 (dk_at dksJ33_init_1 0 rfl rfl)
theorem dJ33_init_25 : decode cJ33_init 25 = .ok (.return_, 1) := dk_177 (dk_at dksJ33_init_1 3 rfl rfl)
abbrev cJ33_initWords : ByteArray := prog_49_method_6_code
def yJ33_initWords : MethodName := ⟨RJ33, "initWords", "(I)V"⟩
def dkwJ33_initWords_0 : List UInt8 := [42, 27, 4, 100, 184, 0, 52, 4, 96, 188, 11, 181, 0, 11, 177]
abbrev dktJ33_initWords_0 : List UInt8 := dkwJ33_initWords_0 ++ []
theorem dksJ33_initWords_0 : cJ33_initWords.data.toList.drop 0 = dktJ33_initWords_0 := by decide +kernel
theorem dJ33_initWords_0 : decode cJ33_initWords 0 = .ok (.aload_n 0, 1) := dk_42 (dk_at dksJ33_initWords_0 0 rfl rfl)
theorem dJ33_initWords_1 : decode cJ33_initWords 1 = .ok (.iload_n 1, 1) := dk_27 (dk_at dksJ33_initWords_0 1 rfl rfl)
theorem dJ33_initWords_2 : decode cJ33_initWords 2 = .ok (.iconst 1, 1) := dk_4 (dk_at dksJ33_initWords_0 2 rfl rfl)
theorem dJ33_initWords_3 : decode cJ33_initWords 3 = .ok (.isub, 1) := dk_100 (dk_at dksJ33_initWords_0 3 rfl rfl)
theorem dJ33_initWords_4 : decode cJ33_initWords 4 = .ok (.invokestatic 52, 3) := dk_184 0 52 (dk_at dksJ33_initWords_0 4 rfl rfl)
theorem dJ33_initWords_7 : decode cJ33_initWords 7 = .ok (.iconst 1, 1) := dk_4 (dk_at dksJ33_initWords_0 7 rfl rfl)
theorem dJ33_initWords_8 : decode cJ33_initWords 8 = .ok (.iadd, 1) := dk_96 (dk_at dksJ33_initWords_0 8 rfl rfl)
theorem dJ33_initWords_9 : decode cJ33_initWords 9 = .ok (.newarray .long, 2) := dk_188_11 (dk_at dksJ33_initWords_0 9 rfl rfl)
theorem dJ33_initWords_11 : decode cJ33_initWords 11 = .ok (.putfield 11, 3) := dk_181 0 11 (dk_at dksJ33_initWords_0 11 rfl rfl)
theorem dJ33_initWords_14 : decode cJ33_initWords 14 = .ok (.return_, 1) := dk_177 (dk_at dksJ33_initWords_0 14 rfl rfl)
abbrev cJ33_wordIndex : ByteArray := prog_49_method_1_code
def yJ33_wordIndex : MethodName := ⟨RJ33, "wordIndex", "(I)I"⟩
def dkwJ33_wordIndex_0 : List UInt8 := [26, 16, 6, 122, 172]
abbrev dktJ33_wordIndex_0 : List UInt8 := dkwJ33_wordIndex_0 ++ []
theorem dksJ33_wordIndex_0 : cJ33_wordIndex.data.toList.drop 0 = dktJ33_wordIndex_0 := by decide +kernel
theorem dJ33_wordIndex_0 : decode cJ33_wordIndex 0 = .ok (.iload_n 0, 1) := dk_26 (dk_at dksJ33_wordIndex_0 0 rfl rfl)
theorem dJ33_wordIndex_1 : decode cJ33_wordIndex 1 = .ok (.bipush 6, 2) := dk_16 6 (dk_at dksJ33_wordIndex_0 1 rfl rfl)
theorem dJ33_wordIndex_3 : decode cJ33_wordIndex 3 = .ok (.ishr, 1) := dk_122 (dk_at dksJ33_wordIndex_0 3 rfl rfl)
theorem dJ33_wordIndex_4 : decode cJ33_wordIndex 4 = .ok (.ireturn, 1) := dk_172 (dk_at dksJ33_wordIndex_0 4 rfl rfl)
abbrev cJ33_set : ByteArray := prog_49_method_19_code
def yJ33_set : MethodName := ⟨RJ33, "set", "(I)V"⟩
def dkwJ33_set_2 : List UInt8 := [10, 27, 121, 129, 80, 42, 182, 0, 56, 177]
abbrev dktJ33_set_2 : List UInt8 := dkwJ33_set_2 ++ []
def dkwJ33_set_1 : List UInt8 := [182, 0, 45, 183, 0, 146, 191, 27, 184, 0, 52, 61, 42, 28, 182, 0, 155, 42, 180, 0, 11, 28, 92, 47]
abbrev dktJ33_set_1 : List UInt8 := dkwJ33_set_1 ++ dktJ33_set_2
def dkwJ33_set_0 : List UInt8 := [27, 156, 0, 30, 187, 0, 142, 89, 187, 0, 33, 89, 183, 0, 35, 18, 153, 182, 0, 38, 27, 182, 0, 42]
abbrev dktJ33_set_0 : List UInt8 := dkwJ33_set_0 ++ dktJ33_set_1
theorem dksJ33_set_0 : cJ33_set.data.toList.drop 0 = dktJ33_set_0 := by decide +kernel
theorem dksJ33_set_1 : cJ33_set.data.toList.drop 24 = dktJ33_set_1 := dk_seg dksJ33_set_0 24 rfl rfl
theorem dksJ33_set_2 : cJ33_set.data.toList.drop 48 = dktJ33_set_2 := dk_seg dksJ33_set_1 24 rfl rfl
theorem dJ33_set_0 : decode cJ33_set 0 = .ok (.iload_n 1, 1) := dk_27 (dk_at dksJ33_set_0 0 rfl rfl)
theorem dJ33_set_1 : decode cJ33_set 1 = .ok (.ifCond .ge 30, 3) := dk_156 0 30 (dk_at dksJ33_set_0 1 rfl rfl)
theorem dJ33_set_4 : decode cJ33_set 4 = .ok (.new 142, 3) := dk_187 0 142 (dk_at dksJ33_set_0 4 rfl rfl)
theorem dJ33_set_7 : decode cJ33_set 7 = .ok (.dup, 1) := dk_89 (dk_at dksJ33_set_0 7 rfl rfl)
theorem dJ33_set_8 : decode cJ33_set 8 = .ok (.new 33, 3) := dk_187 0 33 (dk_at dksJ33_set_0 8 rfl rfl)
theorem dJ33_set_11 : decode cJ33_set 11 = .ok (.dup, 1) := dk_89 (dk_at dksJ33_set_0 11 rfl rfl)
theorem dJ33_set_12 : decode cJ33_set 12 = .ok (.invokespecial 35, 3) := dk_183 0 35 (dk_at dksJ33_set_0 12 rfl rfl)
theorem dJ33_set_15 : decode cJ33_set 15 = .ok (.ldc 153, 2) := dk_18 153 (dk_at dksJ33_set_0 15 rfl rfl)
theorem dJ33_set_17 : decode cJ33_set 17 = .ok (.invokevirtual 38, 3) := dk_182 0 38 (dk_at dksJ33_set_0 17 rfl rfl)
theorem dJ33_set_20 : decode cJ33_set 20 = .ok (.iload_n 1, 1) := dk_27 (dk_at dksJ33_set_0 20 rfl rfl)
theorem dJ33_set_21 : decode cJ33_set 21 = .ok (.invokevirtual 42, 3) := dk_182 0 42 (dk_at dksJ33_set_0 21 rfl rfl)
theorem dJ33_set_24 : decode cJ33_set 24 = .ok (.invokevirtual 45, 3) := dk_182 0 45 (dk_at dksJ33_set_1 0 rfl rfl)
theorem dJ33_set_27 : decode cJ33_set 27 = .ok (.invokespecial 146, 3) := dk_183 0 146 (dk_at dksJ33_set_1 3 rfl rfl)
theorem dJ33_set_30 : decode cJ33_set 30 = .ok (.athrow, 1) := dk_191 (dk_at dksJ33_set_1 6 rfl rfl)
theorem dJ33_set_31 : decode cJ33_set 31 = .ok (.iload_n 1, 1) := dk_27 (dk_at dksJ33_set_1 7 rfl rfl)
theorem dJ33_set_32 : decode cJ33_set 32 = .ok (.invokestatic 52, 3) := dk_184 0 52 (dk_at dksJ33_set_1 8 rfl rfl)
theorem dJ33_set_35 : decode cJ33_set 35 = .ok (.istore_n 2, 1) := dk_61 (dk_at dksJ33_set_1 11 rfl rfl)
theorem dJ33_set_36 : decode cJ33_set 36 = .ok (.aload_n 0, 1) := dk_42 (dk_at dksJ33_set_1 12 rfl rfl)
theorem dJ33_set_37 : decode cJ33_set 37 = .ok (.iload_n 2, 1) := dk_28 (dk_at dksJ33_set_1 13 rfl rfl)
theorem dJ33_set_38 : decode cJ33_set 38 = .ok (.invokevirtual 155, 3) := dk_182 0 155 (dk_at dksJ33_set_1 14 rfl rfl)
theorem dJ33_set_41 : decode cJ33_set 41 = .ok (.aload_n 0, 1) := dk_42 (dk_at dksJ33_set_1 17 rfl rfl)
theorem dJ33_set_42 : decode cJ33_set 42 = .ok (.getfield 11, 3) := dk_180 0 11 (dk_at dksJ33_set_1 18 rfl rfl)
theorem dJ33_set_45 : decode cJ33_set 45 = .ok (.iload_n 2, 1) := dk_28 (dk_at dksJ33_set_1 21 rfl rfl)
theorem dJ33_set_46 : decode cJ33_set 46 = .ok (.dup2, 1) := dk_92 (dk_at dksJ33_set_1 22 rfl rfl)
theorem dJ33_set_47 : decode cJ33_set 47 = .ok (.laload, 1) := dk_47 (dk_at dksJ33_set_1 23 rfl rfl)
theorem dJ33_set_48 : decode cJ33_set 48 = .ok (.lconst 1, 1) := dk_10 (dk_at dksJ33_set_2 0 rfl rfl)
theorem dJ33_set_49 : decode cJ33_set 49 = .ok (.iload_n 1, 1) := dk_27 (dk_at dksJ33_set_2 1 rfl rfl)
theorem dJ33_set_50 : decode cJ33_set 50 = .ok (.lshl, 1) := dk_121 (dk_at dksJ33_set_2 2 rfl rfl)
theorem dJ33_set_51 : decode cJ33_set 51 = .ok (.lor, 1) := dk_129 (dk_at dksJ33_set_2 3 rfl rfl)
theorem dJ33_set_52 : decode cJ33_set 52 = .ok (.lastore, 1) := dk_80 (dk_at dksJ33_set_2 4 rfl rfl)
theorem dJ33_set_53 : decode cJ33_set 53 = .ok (.aload_n 0, 1) := dk_42 (dk_at dksJ33_set_2 5 rfl rfl)
theorem dJ33_set_54 : decode cJ33_set 54 = .ok (.invokevirtual 56, 3) := dk_182 0 56 (dk_at dksJ33_set_2 6 rfl rfl)
theorem dJ33_set_57 : decode cJ33_set 57 = .ok (.return_, 1) := dk_177 (dk_at dksJ33_set_2 9 rfl rfl)
abbrev cJ33_expandTo : ByteArray := prog_49_method_15_code
def yJ33_expandTo : MethodName := ⟨RJ33, "expandTo", "(I)V"⟩
def dkwJ33_expandTo_0 : List UInt8 := [27, 4, 96, 61, 42, 180, 0, 7, 28, 162, 0, 13, 42, 28, 182, 0, 139, 42, 28, 181, 0, 7, 177]
abbrev dktJ33_expandTo_0 : List UInt8 := dkwJ33_expandTo_0 ++ []
theorem dksJ33_expandTo_0 : cJ33_expandTo.data.toList.drop 0 = dktJ33_expandTo_0 := by decide +kernel
theorem dJ33_expandTo_0 : decode cJ33_expandTo 0 = .ok (.iload_n 1, 1) := dk_27 (dk_at dksJ33_expandTo_0 0 rfl rfl)
theorem dJ33_expandTo_1 : decode cJ33_expandTo 1 = .ok (.iconst 1, 1) := dk_4 (dk_at dksJ33_expandTo_0 1 rfl rfl)
theorem dJ33_expandTo_2 : decode cJ33_expandTo 2 = .ok (.iadd, 1) := dk_96 (dk_at dksJ33_expandTo_0 2 rfl rfl)
theorem dJ33_expandTo_3 : decode cJ33_expandTo 3 = .ok (.istore_n 2, 1) := dk_61 (dk_at dksJ33_expandTo_0 3 rfl rfl)
theorem dJ33_expandTo_4 : decode cJ33_expandTo 4 = .ok (.aload_n 0, 1) := dk_42 (dk_at dksJ33_expandTo_0 4 rfl rfl)
theorem dJ33_expandTo_5 : decode cJ33_expandTo 5 = .ok (.getfield 7, 3) := dk_180 0 7 (dk_at dksJ33_expandTo_0 5 rfl rfl)
theorem dJ33_expandTo_8 : decode cJ33_expandTo 8 = .ok (.iload_n 2, 1) := dk_28 (dk_at dksJ33_expandTo_0 8 rfl rfl)
theorem dJ33_expandTo_9 : decode cJ33_expandTo 9 = .ok (.if_icmp .ge 13, 3) := dk_162 0 13 (dk_at dksJ33_expandTo_0 9 rfl rfl)
theorem dJ33_expandTo_12 : decode cJ33_expandTo 12 = .ok (.aload_n 0, 1) := dk_42 (dk_at dksJ33_expandTo_0 12 rfl rfl)
theorem dJ33_expandTo_13 : decode cJ33_expandTo 13 = .ok (.iload_n 2, 1) := dk_28 (dk_at dksJ33_expandTo_0 13 rfl rfl)
theorem dJ33_expandTo_14 : decode cJ33_expandTo 14 = .ok (.invokevirtual 139, 3) := dk_182 0 139 (dk_at dksJ33_expandTo_0 14 rfl rfl)
theorem dJ33_expandTo_17 : decode cJ33_expandTo 17 = .ok (.aload_n 0, 1) := dk_42 (dk_at dksJ33_expandTo_0 17 rfl rfl)
theorem dJ33_expandTo_18 : decode cJ33_expandTo 18 = .ok (.iload_n 2, 1) := dk_28 (dk_at dksJ33_expandTo_0 18 rfl rfl)
theorem dJ33_expandTo_19 : decode cJ33_expandTo 19 = .ok (.putfield 7, 3) := dk_181 0 7 (dk_at dksJ33_expandTo_0 19 rfl rfl)
theorem dJ33_expandTo_22 : decode cJ33_expandTo 22 = .ok (.return_, 1) := dk_177 (dk_at dksJ33_expandTo_0 22 rfl rfl)
abbrev cJ33_ensureCapacity : ByteArray := prog_49_method_14_code
def yJ33_ensureCapacity : MethodName := ⟨RJ33, "ensureCapacity", "(I)V"⟩
def dkwJ33_ensureCapacity_1 : List UInt8 := [180, 0, 11, 28, 184, 0, 59, 181, 0, 11, 42, 3, 181, 0, 24, 177]
abbrev dktJ33_ensureCapacity_1 : List UInt8 := dkwJ33_ensureCapacity_1 ++ []
def dkwJ33_ensureCapacity_0 : List UInt8 := [42, 180, 0, 11, 190, 27, 162, 0, 32, 5, 42, 180, 0, 11, 190, 104, 27, 184, 0, 133, 61, 42, 42]
abbrev dktJ33_ensureCapacity_0 : List UInt8 := dkwJ33_ensureCapacity_0 ++ dktJ33_ensureCapacity_1
theorem dksJ33_ensureCapacity_0 : cJ33_ensureCapacity.data.toList.drop 0 = dktJ33_ensureCapacity_0 := by decide +kernel
theorem dksJ33_ensureCapacity_1 : cJ33_ensureCapacity.data.toList.drop 23 = dktJ33_ensureCapacity_1 := dk_seg dksJ33_ensureCapacity_0 23 rfl rfl
theorem dJ33_ensureCapacity_0 : decode cJ33_ensureCapacity 0 = .ok (.aload_n 0, 1) := dk_42 (dk_at dksJ33_ensureCapacity_0 0 rfl rfl)
theorem dJ33_ensureCapacity_1 : decode cJ33_ensureCapacity 1 = .ok (.getfield 11, 3) := dk_180 0 11 (dk_at dksJ33_ensureCapacity_0 1 rfl rfl)
theorem dJ33_ensureCapacity_4 : decode cJ33_ensureCapacity 4 = .ok (.arraylength, 1) := dk_190 (dk_at dksJ33_ensureCapacity_0 4 rfl rfl)
theorem dJ33_ensureCapacity_5 : decode cJ33_ensureCapacity 5 = .ok (.iload_n 1, 1) := dk_27 (dk_at dksJ33_ensureCapacity_0 5 rfl rfl)
theorem dJ33_ensureCapacity_6 : decode cJ33_ensureCapacity 6 = .ok (.if_icmp .ge 32, 3) := dk_162 0 32 (dk_at dksJ33_ensureCapacity_0 6 rfl rfl)
theorem dJ33_ensureCapacity_9 : decode cJ33_ensureCapacity 9 = .ok (.iconst 2, 1) := dk_5 (dk_at dksJ33_ensureCapacity_0 9 rfl rfl)
theorem dJ33_ensureCapacity_10 : decode cJ33_ensureCapacity 10 = .ok (.aload_n 0, 1) := dk_42 (dk_at dksJ33_ensureCapacity_0 10 rfl rfl)
theorem dJ33_ensureCapacity_11 : decode cJ33_ensureCapacity 11 = .ok (.getfield 11, 3) := dk_180 0 11 (dk_at dksJ33_ensureCapacity_0 11 rfl rfl)
theorem dJ33_ensureCapacity_14 : decode cJ33_ensureCapacity 14 = .ok (.arraylength, 1) := dk_190 (dk_at dksJ33_ensureCapacity_0 14 rfl rfl)
theorem dJ33_ensureCapacity_15 : decode cJ33_ensureCapacity 15 = .ok (.imul, 1) := dk_104 (dk_at dksJ33_ensureCapacity_0 15 rfl rfl)
theorem dJ33_ensureCapacity_16 : decode cJ33_ensureCapacity 16 = .ok (.iload_n 1, 1) := dk_27 (dk_at dksJ33_ensureCapacity_0 16 rfl rfl)
theorem dJ33_ensureCapacity_17 : decode cJ33_ensureCapacity 17 = .ok (.invokestatic 133, 3) := dk_184 0 133 (dk_at dksJ33_ensureCapacity_0 17 rfl rfl)
theorem dJ33_ensureCapacity_20 : decode cJ33_ensureCapacity 20 = .ok (.istore_n 2, 1) := dk_61 (dk_at dksJ33_ensureCapacity_0 20 rfl rfl)
theorem dJ33_ensureCapacity_21 : decode cJ33_ensureCapacity 21 = .ok (.aload_n 0, 1) := dk_42 (dk_at dksJ33_ensureCapacity_0 21 rfl rfl)
theorem dJ33_ensureCapacity_22 : decode cJ33_ensureCapacity 22 = .ok (.aload_n 0, 1) := dk_42 (dk_at dksJ33_ensureCapacity_0 22 rfl rfl)
theorem dJ33_ensureCapacity_23 : decode cJ33_ensureCapacity 23 = .ok (.getfield 11, 3) := dk_180 0 11 (dk_at dksJ33_ensureCapacity_1 0 rfl rfl)
theorem dJ33_ensureCapacity_26 : decode cJ33_ensureCapacity 26 = .ok (.iload_n 2, 1) := dk_28 (dk_at dksJ33_ensureCapacity_1 3 rfl rfl)
theorem dJ33_ensureCapacity_27 : decode cJ33_ensureCapacity 27 = .ok (.invokestatic 59, 3) := dk_184 0 59 (dk_at dksJ33_ensureCapacity_1 4 rfl rfl)
theorem dJ33_ensureCapacity_30 : decode cJ33_ensureCapacity 30 = .ok (.putfield 11, 3) := dk_181 0 11 (dk_at dksJ33_ensureCapacity_1 7 rfl rfl)
theorem dJ33_ensureCapacity_33 : decode cJ33_ensureCapacity 33 = .ok (.aload_n 0, 1) := dk_42 (dk_at dksJ33_ensureCapacity_1 10 rfl rfl)
theorem dJ33_ensureCapacity_34 : decode cJ33_ensureCapacity 34 = .ok (.iconst 0, 1) := dk_3 (dk_at dksJ33_ensureCapacity_1 11 rfl rfl)
theorem dJ33_ensureCapacity_35 : decode cJ33_ensureCapacity 35 = .ok (.putfield 24, 3) := dk_181 0 24 (dk_at dksJ33_ensureCapacity_1 12 rfl rfl)
theorem dJ33_ensureCapacity_38 : decode cJ33_ensureCapacity 38 = .ok (.return_, 1) := dk_177 (dk_at dksJ33_ensureCapacity_1 15 rfl rfl)
abbrev cJ33_checkInvariants : ByteArray := prog_49_method_2_code
def yJ33_checkInvariants : MethodName := ⟨RJ33, "checkInvariants", "()V"⟩
def dkwJ33_checkInvariants_4 : List UInt8 := [180, 0, 7, 47, 9, 148, 153, 0, 11, 187, 0, 15, 89, 183, 0, 17, 191, 177]
abbrev dktJ33_checkInvariants_4 : List UInt8 := dkwJ33_checkInvariants_4 ++ []
def dkwJ33_checkInvariants_3 : List UInt8 := [178, 0, 3, 154, 0, 37, 42, 180, 0, 7, 42, 180, 0, 11, 190, 159, 0, 25, 42, 180, 0, 11, 42]
abbrev dktJ33_checkInvariants_3 : List UInt8 := dkwJ33_checkInvariants_3 ++ dktJ33_checkInvariants_4
def dkwJ33_checkInvariants_2 : List UInt8 := [155, 0, 15, 42, 180, 0, 7, 42, 180, 0, 11, 190, 164, 0, 11, 187, 0, 15, 89, 183, 0, 17, 191]
abbrev dktJ33_checkInvariants_2 : List UInt8 := dkwJ33_checkInvariants_2 ++ dktJ33_checkInvariants_3
def dkwJ33_checkInvariants_1 : List UInt8 := [9, 148, 154, 0, 11, 187, 0, 15, 89, 183, 0, 17, 191, 178, 0, 3, 154, 0, 30, 42, 180, 0, 7]
abbrev dktJ33_checkInvariants_1 : List UInt8 := dkwJ33_checkInvariants_1 ++ dktJ33_checkInvariants_2
def dkwJ33_checkInvariants_0 : List UInt8 := [178, 0, 3, 154, 0, 34, 42, 180, 0, 7, 153, 0, 27, 42, 180, 0, 11, 42, 180, 0, 7, 4, 100, 47]
abbrev dktJ33_checkInvariants_0 : List UInt8 := dkwJ33_checkInvariants_0 ++ dktJ33_checkInvariants_1
theorem dksJ33_checkInvariants_0 : cJ33_checkInvariants.data.toList.drop 0 = dktJ33_checkInvariants_0 := by decide +kernel
theorem dksJ33_checkInvariants_1 : cJ33_checkInvariants.data.toList.drop 24 = dktJ33_checkInvariants_1 := dk_seg dksJ33_checkInvariants_0 24 rfl rfl
theorem dksJ33_checkInvariants_2 : cJ33_checkInvariants.data.toList.drop 47 = dktJ33_checkInvariants_2 := dk_seg dksJ33_checkInvariants_1 23 rfl rfl
theorem dksJ33_checkInvariants_3 : cJ33_checkInvariants.data.toList.drop 70 = dktJ33_checkInvariants_3 := dk_seg dksJ33_checkInvariants_2 23 rfl rfl
theorem dksJ33_checkInvariants_4 : cJ33_checkInvariants.data.toList.drop 93 = dktJ33_checkInvariants_4 := dk_seg dksJ33_checkInvariants_3 23 rfl rfl
theorem dJ33_checkInvariants_0 : decode cJ33_checkInvariants 0 = .ok (.getstatic 3, 3) := dk_178 0 3 (dk_at dksJ33_checkInvariants_0 0 rfl rfl)
theorem dJ33_checkInvariants_3 : decode cJ33_checkInvariants 3 = .ok (.ifCond .ne 34, 3) := dk_154 0 34 (dk_at dksJ33_checkInvariants_0 3 rfl rfl)
theorem dJ33_checkInvariants_6 : decode cJ33_checkInvariants 6 = .ok (.aload_n 0, 1) := dk_42 (dk_at dksJ33_checkInvariants_0 6 rfl rfl)
theorem dJ33_checkInvariants_7 : decode cJ33_checkInvariants 7 = .ok (.getfield 7, 3) := dk_180 0 7 (dk_at dksJ33_checkInvariants_0 7 rfl rfl)
theorem dJ33_checkInvariants_10 : decode cJ33_checkInvariants 10 = .ok (.ifCond .eq 27, 3) := dk_153 0 27 (dk_at dksJ33_checkInvariants_0 10 rfl rfl)
theorem dJ33_checkInvariants_13 : decode cJ33_checkInvariants 13 = .ok (.aload_n 0, 1) := dk_42 (dk_at dksJ33_checkInvariants_0 13 rfl rfl)
theorem dJ33_checkInvariants_14 : decode cJ33_checkInvariants 14 = .ok (.getfield 11, 3) := dk_180 0 11 (dk_at dksJ33_checkInvariants_0 14 rfl rfl)
theorem dJ33_checkInvariants_17 : decode cJ33_checkInvariants 17 = .ok (.aload_n 0, 1) := dk_42 (dk_at dksJ33_checkInvariants_0 17 rfl rfl)
theorem dJ33_checkInvariants_18 : decode cJ33_checkInvariants 18 = .ok (.getfield 7, 3) := dk_180 0 7 (dk_at dksJ33_checkInvariants_0 18 rfl rfl)
theorem dJ33_checkInvariants_21 : decode cJ33_checkInvariants 21 = .ok (.iconst 1, 1) := dk_4 (dk_at dksJ33_checkInvariants_0 21 rfl rfl)
theorem dJ33_checkInvariants_22 : decode cJ33_checkInvariants 22 = .ok (.isub, 1) := dk_100 (dk_at dksJ33_checkInvariants_0 22 rfl rfl)
theorem dJ33_checkInvariants_23 : decode cJ33_checkInvariants 23 = .ok (.laload, 1) := dk_47 (dk_at dksJ33_checkInvariants_0 23 rfl rfl)
theorem dJ33_checkInvariants_24 : decode cJ33_checkInvariants 24 = .ok (.lconst 0, 1) := dk_9 (dk_at dksJ33_checkInvariants_1 0 rfl rfl)
theorem dJ33_checkInvariants_25 : decode cJ33_checkInvariants 25 = .ok (.lcmp, 1) := dk_148 (dk_at dksJ33_checkInvariants_1 1 rfl rfl)
theorem dJ33_checkInvariants_26 : decode cJ33_checkInvariants 26 = .ok (.ifCond .ne 11, 3) := dk_154 0 11 (dk_at dksJ33_checkInvariants_1 2 rfl rfl)
theorem dJ33_checkInvariants_29 : decode cJ33_checkInvariants 29 = .ok (.new 15, 3) := dk_187 0 15 (dk_at dksJ33_checkInvariants_1 5 rfl rfl)
theorem dJ33_checkInvariants_32 : decode cJ33_checkInvariants 32 = .ok (.dup, 1) := dk_89 (dk_at dksJ33_checkInvariants_1 8 rfl rfl)
theorem dJ33_checkInvariants_33 : decode cJ33_checkInvariants 33 = .ok (.invokespecial 17, 3) := dk_183 0 17 (dk_at dksJ33_checkInvariants_1 9 rfl rfl)
theorem dJ33_checkInvariants_36 : decode cJ33_checkInvariants 36 = .ok (.athrow, 1) := dk_191 (dk_at dksJ33_checkInvariants_1 12 rfl rfl)
theorem dJ33_checkInvariants_37 : decode cJ33_checkInvariants 37 = .ok (.getstatic 3, 3) := dk_178 0 3 (dk_at dksJ33_checkInvariants_1 13 rfl rfl)
theorem dJ33_checkInvariants_40 : decode cJ33_checkInvariants 40 = .ok (.ifCond .ne 30, 3) := dk_154 0 30 (dk_at dksJ33_checkInvariants_1 16 rfl rfl)
theorem dJ33_checkInvariants_43 : decode cJ33_checkInvariants 43 = .ok (.aload_n 0, 1) := dk_42 (dk_at dksJ33_checkInvariants_1 19 rfl rfl)
theorem dJ33_checkInvariants_44 : decode cJ33_checkInvariants 44 = .ok (.getfield 7, 3) := dk_180 0 7 (dk_at dksJ33_checkInvariants_1 20 rfl rfl)
theorem dJ33_checkInvariants_47 : decode cJ33_checkInvariants 47 = .ok (.ifCond .lt 15, 3) := dk_155 0 15 (dk_at dksJ33_checkInvariants_2 0 rfl rfl)
theorem dJ33_checkInvariants_50 : decode cJ33_checkInvariants 50 = .ok (.aload_n 0, 1) := dk_42 (dk_at dksJ33_checkInvariants_2 3 rfl rfl)
theorem dJ33_checkInvariants_51 : decode cJ33_checkInvariants 51 = .ok (.getfield 7, 3) := dk_180 0 7 (dk_at dksJ33_checkInvariants_2 4 rfl rfl)
theorem dJ33_checkInvariants_54 : decode cJ33_checkInvariants 54 = .ok (.aload_n 0, 1) := dk_42 (dk_at dksJ33_checkInvariants_2 7 rfl rfl)
theorem dJ33_checkInvariants_55 : decode cJ33_checkInvariants 55 = .ok (.getfield 11, 3) := dk_180 0 11 (dk_at dksJ33_checkInvariants_2 8 rfl rfl)
theorem dJ33_checkInvariants_58 : decode cJ33_checkInvariants 58 = .ok (.arraylength, 1) := dk_190 (dk_at dksJ33_checkInvariants_2 11 rfl rfl)
theorem dJ33_checkInvariants_59 : decode cJ33_checkInvariants 59 = .ok (.if_icmp .le 11, 3) := dk_164 0 11 (dk_at dksJ33_checkInvariants_2 12 rfl rfl)
theorem dJ33_checkInvariants_62 : decode cJ33_checkInvariants 62 = .ok (.new 15, 3) := dk_187 0 15 (dk_at dksJ33_checkInvariants_2 15 rfl rfl)
theorem dJ33_checkInvariants_65 : decode cJ33_checkInvariants 65 = .ok (.dup, 1) := dk_89 (dk_at dksJ33_checkInvariants_2 18 rfl rfl)
theorem dJ33_checkInvariants_66 : decode cJ33_checkInvariants 66 = .ok (.invokespecial 17, 3) := dk_183 0 17 (dk_at dksJ33_checkInvariants_2 19 rfl rfl)
theorem dJ33_checkInvariants_69 : decode cJ33_checkInvariants 69 = .ok (.athrow, 1) := dk_191 (dk_at dksJ33_checkInvariants_2 22 rfl rfl)
theorem dJ33_checkInvariants_70 : decode cJ33_checkInvariants 70 = .ok (.getstatic 3, 3) := dk_178 0 3 (dk_at dksJ33_checkInvariants_3 0 rfl rfl)
theorem dJ33_checkInvariants_73 : decode cJ33_checkInvariants 73 = .ok (.ifCond .ne 37, 3) := dk_154 0 37 (dk_at dksJ33_checkInvariants_3 3 rfl rfl)
theorem dJ33_checkInvariants_76 : decode cJ33_checkInvariants 76 = .ok (.aload_n 0, 1) := dk_42 (dk_at dksJ33_checkInvariants_3 6 rfl rfl)
theorem dJ33_checkInvariants_77 : decode cJ33_checkInvariants 77 = .ok (.getfield 7, 3) := dk_180 0 7 (dk_at dksJ33_checkInvariants_3 7 rfl rfl)
theorem dJ33_checkInvariants_80 : decode cJ33_checkInvariants 80 = .ok (.aload_n 0, 1) := dk_42 (dk_at dksJ33_checkInvariants_3 10 rfl rfl)
theorem dJ33_checkInvariants_81 : decode cJ33_checkInvariants 81 = .ok (.getfield 11, 3) := dk_180 0 11 (dk_at dksJ33_checkInvariants_3 11 rfl rfl)
theorem dJ33_checkInvariants_84 : decode cJ33_checkInvariants 84 = .ok (.arraylength, 1) := dk_190 (dk_at dksJ33_checkInvariants_3 14 rfl rfl)
theorem dJ33_checkInvariants_85 : decode cJ33_checkInvariants 85 = .ok (.if_icmp .eq 25, 3) := dk_159 0 25 (dk_at dksJ33_checkInvariants_3 15 rfl rfl)
theorem dJ33_checkInvariants_88 : decode cJ33_checkInvariants 88 = .ok (.aload_n 0, 1) := dk_42 (dk_at dksJ33_checkInvariants_3 18 rfl rfl)
theorem dJ33_checkInvariants_89 : decode cJ33_checkInvariants 89 = .ok (.getfield 11, 3) := dk_180 0 11 (dk_at dksJ33_checkInvariants_3 19 rfl rfl)
theorem dJ33_checkInvariants_92 : decode cJ33_checkInvariants 92 = .ok (.aload_n 0, 1) := dk_42 (dk_at dksJ33_checkInvariants_3 22 rfl rfl)
theorem dJ33_checkInvariants_93 : decode cJ33_checkInvariants 93 = .ok (.getfield 7, 3) := dk_180 0 7 (dk_at dksJ33_checkInvariants_4 0 rfl rfl)
theorem dJ33_checkInvariants_96 : decode cJ33_checkInvariants 96 = .ok (.laload, 1) := dk_47 (dk_at dksJ33_checkInvariants_4 3 rfl rfl)
theorem dJ33_checkInvariants_97 : decode cJ33_checkInvariants 97 = .ok (.lconst 0, 1) := dk_9 (dk_at dksJ33_checkInvariants_4 4 rfl rfl)
theorem dJ33_checkInvariants_98 : decode cJ33_checkInvariants 98 = .ok (.lcmp, 1) := dk_148 (dk_at dksJ33_checkInvariants_4 5 rfl rfl)
theorem dJ33_checkInvariants_99 : decode cJ33_checkInvariants 99 = .ok (.ifCond .eq 11, 3) := dk_153 0 11 (dk_at dksJ33_checkInvariants_4 6 rfl rfl)
theorem dJ33_checkInvariants_102 : decode cJ33_checkInvariants 102 = .ok (.new 15, 3) := dk_187 0 15 (dk_at dksJ33_checkInvariants_4 9 rfl rfl)
theorem dJ33_checkInvariants_105 : decode cJ33_checkInvariants 105 = .ok (.dup, 1) := dk_89 (dk_at dksJ33_checkInvariants_4 12 rfl rfl)
theorem dJ33_checkInvariants_106 : decode cJ33_checkInvariants 106 = .ok (.invokespecial 17, 3) := dk_183 0 17 (dk_at dksJ33_checkInvariants_4 13 rfl rfl)
theorem dJ33_checkInvariants_109 : decode cJ33_checkInvariants 109 = .ok (.athrow, 1) := dk_191 (dk_at dksJ33_checkInvariants_4 16 rfl rfl)
theorem dJ33_checkInvariants_110 : decode cJ33_checkInvariants 110 = .ok (.return_, 1) := dk_177 (dk_at dksJ33_checkInvariants_4 17 rfl rfl)
abbrev cJ33_nextSetBit : ByteArray := prog_49_method_28_code
def yJ33_nextSetBit : MethodName := ⟨RJ33, "nextSetBit", "(I)I"⟩
def dkwJ33_nextSetBit_4 : List UInt8 := [28, 47, 66, 167, 255, 220]
abbrev dktJ33_nextSetBit_4 : List UInt8 := dkwJ33_nextSetBit_4 ++ []
def dkwJ33_nextSetBit_3 : List UInt8 := [104, 33, 184, 0, 182, 96, 172, 132, 2, 1, 28, 42, 180, 0, 7, 160, 0, 5, 2, 172, 42, 180, 0, 11]
abbrev dktJ33_nextSetBit_3 : List UInt8 := dkwJ33_nextSetBit_3 ++ dktJ33_nextSetBit_4
def dkwJ33_nextSetBit_2 : List UInt8 := [2, 172, 42, 180, 0, 11, 28, 47, 20, 0, 165, 27, 121, 127, 66, 33, 9, 148, 153, 0, 13, 28, 16, 64]
abbrev dktJ33_nextSetBit_2 : List UInt8 := dkwJ33_nextSetBit_2 ++ dktJ33_nextSetBit_3
def dkwJ33_nextSetBit_1 : List UInt8 := [182, 0, 45, 183, 0, 146, 191, 42, 182, 0, 56, 27, 184, 0, 52, 61, 28, 42, 180, 0, 7, 161, 0, 5]
abbrev dktJ33_nextSetBit_1 : List UInt8 := dkwJ33_nextSetBit_1 ++ dktJ33_nextSetBit_2
def dkwJ33_nextSetBit_0 : List UInt8 := [27, 156, 0, 30, 187, 0, 142, 89, 187, 0, 33, 89, 183, 0, 35, 18, 144, 182, 0, 38, 27, 182, 0, 42]
abbrev dktJ33_nextSetBit_0 : List UInt8 := dkwJ33_nextSetBit_0 ++ dktJ33_nextSetBit_1
theorem dksJ33_nextSetBit_0 : cJ33_nextSetBit.data.toList.drop 0 = dktJ33_nextSetBit_0 := by decide +kernel
theorem dksJ33_nextSetBit_1 : cJ33_nextSetBit.data.toList.drop 24 = dktJ33_nextSetBit_1 := dk_seg dksJ33_nextSetBit_0 24 rfl rfl
theorem dksJ33_nextSetBit_2 : cJ33_nextSetBit.data.toList.drop 48 = dktJ33_nextSetBit_2 := dk_seg dksJ33_nextSetBit_1 24 rfl rfl
theorem dksJ33_nextSetBit_3 : cJ33_nextSetBit.data.toList.drop 72 = dktJ33_nextSetBit_3 := dk_seg dksJ33_nextSetBit_2 24 rfl rfl
theorem dksJ33_nextSetBit_4 : cJ33_nextSetBit.data.toList.drop 96 = dktJ33_nextSetBit_4 := dk_seg dksJ33_nextSetBit_3 24 rfl rfl
theorem dJ33_nextSetBit_0 : decode cJ33_nextSetBit 0 = .ok (.iload_n 1, 1) := dk_27 (dk_at dksJ33_nextSetBit_0 0 rfl rfl)
theorem dJ33_nextSetBit_1 : decode cJ33_nextSetBit 1 = .ok (.ifCond .ge 30, 3) := dk_156 0 30 (dk_at dksJ33_nextSetBit_0 1 rfl rfl)
theorem dJ33_nextSetBit_4 : decode cJ33_nextSetBit 4 = .ok (.new 142, 3) := dk_187 0 142 (dk_at dksJ33_nextSetBit_0 4 rfl rfl)
theorem dJ33_nextSetBit_7 : decode cJ33_nextSetBit 7 = .ok (.dup, 1) := dk_89 (dk_at dksJ33_nextSetBit_0 7 rfl rfl)
theorem dJ33_nextSetBit_8 : decode cJ33_nextSetBit 8 = .ok (.new 33, 3) := dk_187 0 33 (dk_at dksJ33_nextSetBit_0 8 rfl rfl)
theorem dJ33_nextSetBit_11 : decode cJ33_nextSetBit 11 = .ok (.dup, 1) := dk_89 (dk_at dksJ33_nextSetBit_0 11 rfl rfl)
theorem dJ33_nextSetBit_12 : decode cJ33_nextSetBit 12 = .ok (.invokespecial 35, 3) := dk_183 0 35 (dk_at dksJ33_nextSetBit_0 12 rfl rfl)
theorem dJ33_nextSetBit_15 : decode cJ33_nextSetBit 15 = .ok (.ldc 144, 2) := dk_18 144 (dk_at dksJ33_nextSetBit_0 15 rfl rfl)
theorem dJ33_nextSetBit_17 : decode cJ33_nextSetBit 17 = .ok (.invokevirtual 38, 3) := dk_182 0 38 (dk_at dksJ33_nextSetBit_0 17 rfl rfl)
theorem dJ33_nextSetBit_20 : decode cJ33_nextSetBit 20 = .ok (.iload_n 1, 1) := dk_27 (dk_at dksJ33_nextSetBit_0 20 rfl rfl)
theorem dJ33_nextSetBit_21 : decode cJ33_nextSetBit 21 = .ok (.invokevirtual 42, 3) := dk_182 0 42 (dk_at dksJ33_nextSetBit_0 21 rfl rfl)
theorem dJ33_nextSetBit_24 : decode cJ33_nextSetBit 24 = .ok (.invokevirtual 45, 3) := dk_182 0 45 (dk_at dksJ33_nextSetBit_1 0 rfl rfl)
theorem dJ33_nextSetBit_27 : decode cJ33_nextSetBit 27 = .ok (.invokespecial 146, 3) := dk_183 0 146 (dk_at dksJ33_nextSetBit_1 3 rfl rfl)
theorem dJ33_nextSetBit_30 : decode cJ33_nextSetBit 30 = .ok (.athrow, 1) := dk_191 (dk_at dksJ33_nextSetBit_1 6 rfl rfl)
theorem dJ33_nextSetBit_31 : decode cJ33_nextSetBit 31 = .ok (.aload_n 0, 1) := dk_42 (dk_at dksJ33_nextSetBit_1 7 rfl rfl)
theorem dJ33_nextSetBit_32 : decode cJ33_nextSetBit 32 = .ok (.invokevirtual 56, 3) := dk_182 0 56 (dk_at dksJ33_nextSetBit_1 8 rfl rfl)
theorem dJ33_nextSetBit_35 : decode cJ33_nextSetBit 35 = .ok (.iload_n 1, 1) := dk_27 (dk_at dksJ33_nextSetBit_1 11 rfl rfl)
theorem dJ33_nextSetBit_36 : decode cJ33_nextSetBit 36 = .ok (.invokestatic 52, 3) := dk_184 0 52 (dk_at dksJ33_nextSetBit_1 12 rfl rfl)
theorem dJ33_nextSetBit_39 : decode cJ33_nextSetBit 39 = .ok (.istore_n 2, 1) := dk_61 (dk_at dksJ33_nextSetBit_1 15 rfl rfl)
theorem dJ33_nextSetBit_40 : decode cJ33_nextSetBit 40 = .ok (.iload_n 2, 1) := dk_28 (dk_at dksJ33_nextSetBit_1 16 rfl rfl)
theorem dJ33_nextSetBit_41 : decode cJ33_nextSetBit 41 = .ok (.aload_n 0, 1) := dk_42 (dk_at dksJ33_nextSetBit_1 17 rfl rfl)
theorem dJ33_nextSetBit_42 : decode cJ33_nextSetBit 42 = .ok (.getfield 7, 3) := dk_180 0 7 (dk_at dksJ33_nextSetBit_1 18 rfl rfl)
theorem dJ33_nextSetBit_45 : decode cJ33_nextSetBit 45 = .ok (.if_icmp .lt 5, 3) := dk_161 0 5 (dk_at dksJ33_nextSetBit_1 21 rfl rfl)
theorem dJ33_nextSetBit_48 : decode cJ33_nextSetBit 48 = .ok (.iconst (-1), 1) := dk_2 (dk_at dksJ33_nextSetBit_2 0 rfl rfl)
theorem dJ33_nextSetBit_49 : decode cJ33_nextSetBit 49 = .ok (.ireturn, 1) := dk_172 (dk_at dksJ33_nextSetBit_2 1 rfl rfl)
theorem dJ33_nextSetBit_50 : decode cJ33_nextSetBit 50 = .ok (.aload_n 0, 1) := dk_42 (dk_at dksJ33_nextSetBit_2 2 rfl rfl)
theorem dJ33_nextSetBit_51 : decode cJ33_nextSetBit 51 = .ok (.getfield 11, 3) := dk_180 0 11 (dk_at dksJ33_nextSetBit_2 3 rfl rfl)
theorem dJ33_nextSetBit_54 : decode cJ33_nextSetBit 54 = .ok (.iload_n 2, 1) := dk_28 (dk_at dksJ33_nextSetBit_2 6 rfl rfl)
theorem dJ33_nextSetBit_55 : decode cJ33_nextSetBit 55 = .ok (.laload, 1) := dk_47 (dk_at dksJ33_nextSetBit_2 7 rfl rfl)
theorem dJ33_nextSetBit_56 : decode cJ33_nextSetBit 56 = .ok (.ldc2_w 165, 3) := dk_20 0 165 (dk_at dksJ33_nextSetBit_2 8 rfl rfl)
theorem dJ33_nextSetBit_59 : decode cJ33_nextSetBit 59 = .ok (.iload_n 1, 1) := dk_27 (dk_at dksJ33_nextSetBit_2 11 rfl rfl)
theorem dJ33_nextSetBit_60 : decode cJ33_nextSetBit 60 = .ok (.lshl, 1) := dk_121 (dk_at dksJ33_nextSetBit_2 12 rfl rfl)
theorem dJ33_nextSetBit_61 : decode cJ33_nextSetBit 61 = .ok (.land, 1) := dk_127 (dk_at dksJ33_nextSetBit_2 13 rfl rfl)
theorem dJ33_nextSetBit_62 : decode cJ33_nextSetBit 62 = .ok (.lstore_n 3, 1) := dk_66 (dk_at dksJ33_nextSetBit_2 14 rfl rfl)
theorem dJ33_nextSetBit_63 : decode cJ33_nextSetBit 63 = .ok (.lload_n 3, 1) := dk_33 (dk_at dksJ33_nextSetBit_2 15 rfl rfl)
theorem dJ33_nextSetBit_64 : decode cJ33_nextSetBit 64 = .ok (.lconst 0, 1) := dk_9 (dk_at dksJ33_nextSetBit_2 16 rfl rfl)
theorem dJ33_nextSetBit_65 : decode cJ33_nextSetBit 65 = .ok (.lcmp, 1) := dk_148 (dk_at dksJ33_nextSetBit_2 17 rfl rfl)
theorem dJ33_nextSetBit_66 : decode cJ33_nextSetBit 66 = .ok (.ifCond .eq 13, 3) := dk_153 0 13 (dk_at dksJ33_nextSetBit_2 18 rfl rfl)
theorem dJ33_nextSetBit_69 : decode cJ33_nextSetBit 69 = .ok (.iload_n 2, 1) := dk_28 (dk_at dksJ33_nextSetBit_2 21 rfl rfl)
theorem dJ33_nextSetBit_70 : decode cJ33_nextSetBit 70 = .ok (.bipush 64, 2) := dk_16 64 (dk_at dksJ33_nextSetBit_2 22 rfl rfl)
theorem dJ33_nextSetBit_72 : decode cJ33_nextSetBit 72 = .ok (.imul, 1) := dk_104 (dk_at dksJ33_nextSetBit_3 0 rfl rfl)
theorem dJ33_nextSetBit_73 : decode cJ33_nextSetBit 73 = .ok (.lload_n 3, 1) := dk_33 (dk_at dksJ33_nextSetBit_3 1 rfl rfl)
theorem dJ33_nextSetBit_74 : decode cJ33_nextSetBit 74 = .ok (.invokestatic 182, 3) := dk_184 0 182 (dk_at dksJ33_nextSetBit_3 2 rfl rfl)
theorem dJ33_nextSetBit_77 : decode cJ33_nextSetBit 77 = .ok (.iadd, 1) := dk_96 (dk_at dksJ33_nextSetBit_3 5 rfl rfl)
theorem dJ33_nextSetBit_78 : decode cJ33_nextSetBit 78 = .ok (.ireturn, 1) := dk_172 (dk_at dksJ33_nextSetBit_3 6 rfl rfl)
theorem dJ33_nextSetBit_79 : decode cJ33_nextSetBit 79 = .ok (.iinc 2 1, 3) := dk_132 2 1 (dk_at dksJ33_nextSetBit_3 7 rfl rfl)
theorem dJ33_nextSetBit_82 : decode cJ33_nextSetBit 82 = .ok (.iload_n 2, 1) := dk_28 (dk_at dksJ33_nextSetBit_3 10 rfl rfl)
theorem dJ33_nextSetBit_83 : decode cJ33_nextSetBit 83 = .ok (.aload_n 0, 1) := dk_42 (dk_at dksJ33_nextSetBit_3 11 rfl rfl)
theorem dJ33_nextSetBit_84 : decode cJ33_nextSetBit 84 = .ok (.getfield 7, 3) := dk_180 0 7 (dk_at dksJ33_nextSetBit_3 12 rfl rfl)
theorem dJ33_nextSetBit_87 : decode cJ33_nextSetBit 87 = .ok (.if_icmp .ne 5, 3) := dk_160 0 5 (dk_at dksJ33_nextSetBit_3 15 rfl rfl)
theorem dJ33_nextSetBit_90 : decode cJ33_nextSetBit 90 = .ok (.iconst (-1), 1) := dk_2 (dk_at dksJ33_nextSetBit_3 18 rfl rfl)
theorem dJ33_nextSetBit_91 : decode cJ33_nextSetBit 91 = .ok (.ireturn, 1) := dk_172 (dk_at dksJ33_nextSetBit_3 19 rfl rfl)
theorem dJ33_nextSetBit_92 : decode cJ33_nextSetBit 92 = .ok (.aload_n 0, 1) := dk_42 (dk_at dksJ33_nextSetBit_3 20 rfl rfl)
theorem dJ33_nextSetBit_93 : decode cJ33_nextSetBit 93 = .ok (.getfield 11, 3) := dk_180 0 11 (dk_at dksJ33_nextSetBit_3 21 rfl rfl)
theorem dJ33_nextSetBit_96 : decode cJ33_nextSetBit 96 = .ok (.iload_n 2, 1) := dk_28 (dk_at dksJ33_nextSetBit_4 0 rfl rfl)
theorem dJ33_nextSetBit_97 : decode cJ33_nextSetBit 97 = .ok (.laload, 1) := dk_47 (dk_at dksJ33_nextSetBit_4 1 rfl rfl)
theorem dJ33_nextSetBit_98 : decode cJ33_nextSetBit 98 = .ok (.lstore_n 3, 1) := dk_66 (dk_at dksJ33_nextSetBit_4 2 rfl rfl)
theorem dJ33_nextSetBit_99 : decode cJ33_nextSetBit 99 = .ok (.goto (-36), 3) := dk_167 255 220 (dk_at dksJ33_nextSetBit_4 3 rfl rfl)
abbrev cJ33_nextClearBit : ByteArray := prog_49_method_29_code
def yJ33_nextClearBit : MethodName := ⟨RJ33, "nextClearBit", "(I)I"⟩
def dkwJ33_nextClearBit_4 : List UInt8 := [42, 180, 0, 7, 16, 64, 104, 172, 42, 180, 0, 11, 28, 47, 20, 0, 165, 131, 66, 167, 255, 210]
abbrev dktJ33_nextClearBit_4 : List UInt8 := dkwJ33_nextClearBit_4 ++ []
def dkwJ33_nextClearBit_3 : List UInt8 := [153, 0, 13, 28, 16, 64, 104, 33, 184, 0, 182, 96, 172, 132, 2, 1, 28, 42, 180, 0, 7, 160, 0, 11]
abbrev dktJ33_nextClearBit_3 : List UInt8 := dkwJ33_nextClearBit_3 ++ dktJ33_nextClearBit_4
def dkwJ33_nextClearBit_2 : List UInt8 := [27, 172, 42, 180, 0, 11, 28, 47, 20, 0, 165, 131, 20, 0, 165, 27, 121, 127, 66, 33, 9, 148]
abbrev dktJ33_nextClearBit_2 : List UInt8 := dkwJ33_nextClearBit_2 ++ dktJ33_nextClearBit_3
def dkwJ33_nextClearBit_1 : List UInt8 := [182, 0, 45, 183, 0, 146, 191, 42, 182, 0, 56, 27, 184, 0, 52, 61, 28, 42, 180, 0, 7, 161, 0, 5]
abbrev dktJ33_nextClearBit_1 : List UInt8 := dkwJ33_nextClearBit_1 ++ dktJ33_nextClearBit_2
def dkwJ33_nextClearBit_0 : List UInt8 := [27, 156, 0, 30, 187, 0, 142, 89, 187, 0, 33, 89, 183, 0, 35, 18, 144, 182, 0, 38, 27, 182, 0, 42]
abbrev dktJ33_nextClearBit_0 : List UInt8 := dkwJ33_nextClearBit_0 ++ dktJ33_nextClearBit_1
theorem dksJ33_nextClearBit_0 : cJ33_nextClearBit.data.toList.drop 0 = dktJ33_nextClearBit_0 := by decide +kernel
theorem dksJ33_nextClearBit_1 : cJ33_nextClearBit.data.toList.drop 24 = dktJ33_nextClearBit_1 := dk_seg dksJ33_nextClearBit_0 24 rfl rfl
theorem dksJ33_nextClearBit_2 : cJ33_nextClearBit.data.toList.drop 48 = dktJ33_nextClearBit_2 := dk_seg dksJ33_nextClearBit_1 24 rfl rfl
theorem dksJ33_nextClearBit_3 : cJ33_nextClearBit.data.toList.drop 70 = dktJ33_nextClearBit_3 := dk_seg dksJ33_nextClearBit_2 22 rfl rfl
theorem dksJ33_nextClearBit_4 : cJ33_nextClearBit.data.toList.drop 94 = dktJ33_nextClearBit_4 := dk_seg dksJ33_nextClearBit_3 24 rfl rfl
theorem dJ33_nextClearBit_0 : decode cJ33_nextClearBit 0 = .ok (.iload_n 1, 1) := dk_27 (dk_at dksJ33_nextClearBit_0 0 rfl rfl)
theorem dJ33_nextClearBit_1 : decode cJ33_nextClearBit 1 = .ok (.ifCond .ge 30, 3) := dk_156 0 30 (dk_at dksJ33_nextClearBit_0 1 rfl rfl)
theorem dJ33_nextClearBit_4 : decode cJ33_nextClearBit 4 = .ok (.new 142, 3) := dk_187 0 142 (dk_at dksJ33_nextClearBit_0 4 rfl rfl)
theorem dJ33_nextClearBit_7 : decode cJ33_nextClearBit 7 = .ok (.dup, 1) := dk_89 (dk_at dksJ33_nextClearBit_0 7 rfl rfl)
theorem dJ33_nextClearBit_8 : decode cJ33_nextClearBit 8 = .ok (.new 33, 3) := dk_187 0 33 (dk_at dksJ33_nextClearBit_0 8 rfl rfl)
theorem dJ33_nextClearBit_11 : decode cJ33_nextClearBit 11 = .ok (.dup, 1) := dk_89 (dk_at dksJ33_nextClearBit_0 11 rfl rfl)
theorem dJ33_nextClearBit_12 : decode cJ33_nextClearBit 12 = .ok (.invokespecial 35, 3) := dk_183 0 35 (dk_at dksJ33_nextClearBit_0 12 rfl rfl)
theorem dJ33_nextClearBit_15 : decode cJ33_nextClearBit 15 = .ok (.ldc 144, 2) := dk_18 144 (dk_at dksJ33_nextClearBit_0 15 rfl rfl)
theorem dJ33_nextClearBit_17 : decode cJ33_nextClearBit 17 = .ok (.invokevirtual 38, 3) := dk_182 0 38 (dk_at dksJ33_nextClearBit_0 17 rfl rfl)
theorem dJ33_nextClearBit_20 : decode cJ33_nextClearBit 20 = .ok (.iload_n 1, 1) := dk_27 (dk_at dksJ33_nextClearBit_0 20 rfl rfl)
theorem dJ33_nextClearBit_21 : decode cJ33_nextClearBit 21 = .ok (.invokevirtual 42, 3) := dk_182 0 42 (dk_at dksJ33_nextClearBit_0 21 rfl rfl)
theorem dJ33_nextClearBit_24 : decode cJ33_nextClearBit 24 = .ok (.invokevirtual 45, 3) := dk_182 0 45 (dk_at dksJ33_nextClearBit_1 0 rfl rfl)
theorem dJ33_nextClearBit_27 : decode cJ33_nextClearBit 27 = .ok (.invokespecial 146, 3) := dk_183 0 146 (dk_at dksJ33_nextClearBit_1 3 rfl rfl)
theorem dJ33_nextClearBit_30 : decode cJ33_nextClearBit 30 = .ok (.athrow, 1) := dk_191 (dk_at dksJ33_nextClearBit_1 6 rfl rfl)
theorem dJ33_nextClearBit_31 : decode cJ33_nextClearBit 31 = .ok (.aload_n 0, 1) := dk_42 (dk_at dksJ33_nextClearBit_1 7 rfl rfl)
theorem dJ33_nextClearBit_32 : decode cJ33_nextClearBit 32 = .ok (.invokevirtual 56, 3) := dk_182 0 56 (dk_at dksJ33_nextClearBit_1 8 rfl rfl)
theorem dJ33_nextClearBit_35 : decode cJ33_nextClearBit 35 = .ok (.iload_n 1, 1) := dk_27 (dk_at dksJ33_nextClearBit_1 11 rfl rfl)
theorem dJ33_nextClearBit_36 : decode cJ33_nextClearBit 36 = .ok (.invokestatic 52, 3) := dk_184 0 52 (dk_at dksJ33_nextClearBit_1 12 rfl rfl)
theorem dJ33_nextClearBit_39 : decode cJ33_nextClearBit 39 = .ok (.istore_n 2, 1) := dk_61 (dk_at dksJ33_nextClearBit_1 15 rfl rfl)
theorem dJ33_nextClearBit_40 : decode cJ33_nextClearBit 40 = .ok (.iload_n 2, 1) := dk_28 (dk_at dksJ33_nextClearBit_1 16 rfl rfl)
theorem dJ33_nextClearBit_41 : decode cJ33_nextClearBit 41 = .ok (.aload_n 0, 1) := dk_42 (dk_at dksJ33_nextClearBit_1 17 rfl rfl)
theorem dJ33_nextClearBit_42 : decode cJ33_nextClearBit 42 = .ok (.getfield 7, 3) := dk_180 0 7 (dk_at dksJ33_nextClearBit_1 18 rfl rfl)
theorem dJ33_nextClearBit_45 : decode cJ33_nextClearBit 45 = .ok (.if_icmp .lt 5, 3) := dk_161 0 5 (dk_at dksJ33_nextClearBit_1 21 rfl rfl)
theorem dJ33_nextClearBit_48 : decode cJ33_nextClearBit 48 = .ok (.iload_n 1, 1) := dk_27 (dk_at dksJ33_nextClearBit_2 0 rfl rfl)
theorem dJ33_nextClearBit_49 : decode cJ33_nextClearBit 49 = .ok (.ireturn, 1) := dk_172 (dk_at dksJ33_nextClearBit_2 1 rfl rfl)
theorem dJ33_nextClearBit_50 : decode cJ33_nextClearBit 50 = .ok (.aload_n 0, 1) := dk_42 (dk_at dksJ33_nextClearBit_2 2 rfl rfl)
theorem dJ33_nextClearBit_51 : decode cJ33_nextClearBit 51 = .ok (.getfield 11, 3) := dk_180 0 11 (dk_at dksJ33_nextClearBit_2 3 rfl rfl)
theorem dJ33_nextClearBit_54 : decode cJ33_nextClearBit 54 = .ok (.iload_n 2, 1) := dk_28 (dk_at dksJ33_nextClearBit_2 6 rfl rfl)
theorem dJ33_nextClearBit_55 : decode cJ33_nextClearBit 55 = .ok (.laload, 1) := dk_47 (dk_at dksJ33_nextClearBit_2 7 rfl rfl)
theorem dJ33_nextClearBit_56 : decode cJ33_nextClearBit 56 = .ok (.ldc2_w 165, 3) := dk_20 0 165 (dk_at dksJ33_nextClearBit_2 8 rfl rfl)
theorem dJ33_nextClearBit_59 : decode cJ33_nextClearBit 59 = .ok (.lxor, 1) := dk_131 (dk_at dksJ33_nextClearBit_2 11 rfl rfl)
theorem dJ33_nextClearBit_60 : decode cJ33_nextClearBit 60 = .ok (.ldc2_w 165, 3) := dk_20 0 165 (dk_at dksJ33_nextClearBit_2 12 rfl rfl)
theorem dJ33_nextClearBit_63 : decode cJ33_nextClearBit 63 = .ok (.iload_n 1, 1) := dk_27 (dk_at dksJ33_nextClearBit_2 15 rfl rfl)
theorem dJ33_nextClearBit_64 : decode cJ33_nextClearBit 64 = .ok (.lshl, 1) := dk_121 (dk_at dksJ33_nextClearBit_2 16 rfl rfl)
theorem dJ33_nextClearBit_65 : decode cJ33_nextClearBit 65 = .ok (.land, 1) := dk_127 (dk_at dksJ33_nextClearBit_2 17 rfl rfl)
theorem dJ33_nextClearBit_66 : decode cJ33_nextClearBit 66 = .ok (.lstore_n 3, 1) := dk_66 (dk_at dksJ33_nextClearBit_2 18 rfl rfl)
theorem dJ33_nextClearBit_67 : decode cJ33_nextClearBit 67 = .ok (.lload_n 3, 1) := dk_33 (dk_at dksJ33_nextClearBit_2 19 rfl rfl)
theorem dJ33_nextClearBit_68 : decode cJ33_nextClearBit 68 = .ok (.lconst 0, 1) := dk_9 (dk_at dksJ33_nextClearBit_2 20 rfl rfl)
theorem dJ33_nextClearBit_69 : decode cJ33_nextClearBit 69 = .ok (.lcmp, 1) := dk_148 (dk_at dksJ33_nextClearBit_2 21 rfl rfl)
theorem dJ33_nextClearBit_70 : decode cJ33_nextClearBit 70 = .ok (.ifCond .eq 13, 3) := dk_153 0 13 (dk_at dksJ33_nextClearBit_3 0 rfl rfl)
theorem dJ33_nextClearBit_73 : decode cJ33_nextClearBit 73 = .ok (.iload_n 2, 1) := dk_28 (dk_at dksJ33_nextClearBit_3 3 rfl rfl)
theorem dJ33_nextClearBit_74 : decode cJ33_nextClearBit 74 = .ok (.bipush 64, 2) := dk_16 64 (dk_at dksJ33_nextClearBit_3 4 rfl rfl)
theorem dJ33_nextClearBit_76 : decode cJ33_nextClearBit 76 = .ok (.imul, 1) := dk_104 (dk_at dksJ33_nextClearBit_3 6 rfl rfl)
theorem dJ33_nextClearBit_77 : decode cJ33_nextClearBit 77 = .ok (.lload_n 3, 1) := dk_33 (dk_at dksJ33_nextClearBit_3 7 rfl rfl)
theorem dJ33_nextClearBit_78 : decode cJ33_nextClearBit 78 = .ok (.invokestatic 182, 3) := dk_184 0 182 (dk_at dksJ33_nextClearBit_3 8 rfl rfl)
theorem dJ33_nextClearBit_81 : decode cJ33_nextClearBit 81 = .ok (.iadd, 1) := dk_96 (dk_at dksJ33_nextClearBit_3 11 rfl rfl)
theorem dJ33_nextClearBit_82 : decode cJ33_nextClearBit 82 = .ok (.ireturn, 1) := dk_172 (dk_at dksJ33_nextClearBit_3 12 rfl rfl)
theorem dJ33_nextClearBit_83 : decode cJ33_nextClearBit 83 = .ok (.iinc 2 1, 3) := dk_132 2 1 (dk_at dksJ33_nextClearBit_3 13 rfl rfl)
theorem dJ33_nextClearBit_86 : decode cJ33_nextClearBit 86 = .ok (.iload_n 2, 1) := dk_28 (dk_at dksJ33_nextClearBit_3 16 rfl rfl)
theorem dJ33_nextClearBit_87 : decode cJ33_nextClearBit 87 = .ok (.aload_n 0, 1) := dk_42 (dk_at dksJ33_nextClearBit_3 17 rfl rfl)
theorem dJ33_nextClearBit_88 : decode cJ33_nextClearBit 88 = .ok (.getfield 7, 3) := dk_180 0 7 (dk_at dksJ33_nextClearBit_3 18 rfl rfl)
theorem dJ33_nextClearBit_91 : decode cJ33_nextClearBit 91 = .ok (.if_icmp .ne 11, 3) := dk_160 0 11 (dk_at dksJ33_nextClearBit_3 21 rfl rfl)
theorem dJ33_nextClearBit_94 : decode cJ33_nextClearBit 94 = .ok (.aload_n 0, 1) := dk_42 (dk_at dksJ33_nextClearBit_4 0 rfl rfl)
theorem dJ33_nextClearBit_95 : decode cJ33_nextClearBit 95 = .ok (.getfield 7, 3) := dk_180 0 7 (dk_at dksJ33_nextClearBit_4 1 rfl rfl)
theorem dJ33_nextClearBit_98 : decode cJ33_nextClearBit 98 = .ok (.bipush 64, 2) := dk_16 64 (dk_at dksJ33_nextClearBit_4 4 rfl rfl)
theorem dJ33_nextClearBit_100 : decode cJ33_nextClearBit 100 = .ok (.imul, 1) := dk_104 (dk_at dksJ33_nextClearBit_4 6 rfl rfl)
theorem dJ33_nextClearBit_101 : decode cJ33_nextClearBit 101 = .ok (.ireturn, 1) := dk_172 (dk_at dksJ33_nextClearBit_4 7 rfl rfl)
theorem dJ33_nextClearBit_102 : decode cJ33_nextClearBit 102 = .ok (.aload_n 0, 1) := dk_42 (dk_at dksJ33_nextClearBit_4 8 rfl rfl)
theorem dJ33_nextClearBit_103 : decode cJ33_nextClearBit 103 = .ok (.getfield 11, 3) := dk_180 0 11 (dk_at dksJ33_nextClearBit_4 9 rfl rfl)
theorem dJ33_nextClearBit_106 : decode cJ33_nextClearBit 106 = .ok (.iload_n 2, 1) := dk_28 (dk_at dksJ33_nextClearBit_4 12 rfl rfl)
theorem dJ33_nextClearBit_107 : decode cJ33_nextClearBit 107 = .ok (.laload, 1) := dk_47 (dk_at dksJ33_nextClearBit_4 13 rfl rfl)
theorem dJ33_nextClearBit_108 : decode cJ33_nextClearBit 108 = .ok (.ldc2_w 165, 3) := dk_20 0 165 (dk_at dksJ33_nextClearBit_4 14 rfl rfl)
theorem dJ33_nextClearBit_111 : decode cJ33_nextClearBit 111 = .ok (.lxor, 1) := dk_131 (dk_at dksJ33_nextClearBit_4 17 rfl rfl)
theorem dJ33_nextClearBit_112 : decode cJ33_nextClearBit 112 = .ok (.lstore_n 3, 1) := dk_66 (dk_at dksJ33_nextClearBit_4 18 rfl rfl)
theorem dJ33_nextClearBit_113 : decode cJ33_nextClearBit 113 = .ok (.goto (-46), 3) := dk_167 255 210 (dk_at dksJ33_nextClearBit_4 19 rfl rfl)
abbrev cJ33_cardinality : ByteArray := prog_49_method_35_code
def yJ33_cardinality : MethodName := ⟨RJ33, "cardinality", "()I"⟩
def dkwJ33_cardinality_1 : List UInt8 := [132, 2, 1, 167, 255, 233, 27, 172]
abbrev dktJ33_cardinality_1 : List UInt8 := dkwJ33_cardinality_1 ++ []
def dkwJ33_cardinality_0 : List UInt8 := [3, 60, 3, 61, 28, 42, 180, 0, 7, 162, 0, 21, 27, 42, 180, 0, 11, 28, 47, 184, 0, 196, 96, 60]
abbrev dktJ33_cardinality_0 : List UInt8 := dkwJ33_cardinality_0 ++ dktJ33_cardinality_1
theorem dksJ33_cardinality_0 : cJ33_cardinality.data.toList.drop 0 = dktJ33_cardinality_0 := by decide +kernel
theorem dksJ33_cardinality_1 : cJ33_cardinality.data.toList.drop 24 = dktJ33_cardinality_1 := dk_seg dksJ33_cardinality_0 24 rfl rfl
theorem dJ33_cardinality_0 : decode cJ33_cardinality 0 = .ok (.iconst 0, 1) := dk_3 (dk_at dksJ33_cardinality_0 0 rfl rfl)
theorem dJ33_cardinality_1 : decode cJ33_cardinality 1 = .ok (.istore_n 1, 1) := dk_60 (dk_at dksJ33_cardinality_0 1 rfl rfl)
theorem dJ33_cardinality_2 : decode cJ33_cardinality 2 = .ok (.iconst 0, 1) := dk_3 (dk_at dksJ33_cardinality_0 2 rfl rfl)
theorem dJ33_cardinality_3 : decode cJ33_cardinality 3 = .ok (.istore_n 2, 1) := dk_61 (dk_at dksJ33_cardinality_0 3 rfl rfl)
theorem dJ33_cardinality_4 : decode cJ33_cardinality 4 = .ok (.iload_n 2, 1) := dk_28 (dk_at dksJ33_cardinality_0 4 rfl rfl)
theorem dJ33_cardinality_5 : decode cJ33_cardinality 5 = .ok (.aload_n 0, 1) := dk_42 (dk_at dksJ33_cardinality_0 5 rfl rfl)
theorem dJ33_cardinality_6 : decode cJ33_cardinality 6 = .ok (.getfield 7, 3) := dk_180 0 7 (dk_at dksJ33_cardinality_0 6 rfl rfl)
theorem dJ33_cardinality_9 : decode cJ33_cardinality 9 = .ok (.if_icmp .ge 21, 3) := dk_162 0 21 (dk_at dksJ33_cardinality_0 9 rfl rfl)
theorem dJ33_cardinality_12 : decode cJ33_cardinality 12 = .ok (.iload_n 1, 1) := dk_27 (dk_at dksJ33_cardinality_0 12 rfl rfl)
theorem dJ33_cardinality_13 : decode cJ33_cardinality 13 = .ok (.aload_n 0, 1) := dk_42 (dk_at dksJ33_cardinality_0 13 rfl rfl)
theorem dJ33_cardinality_14 : decode cJ33_cardinality 14 = .ok (.getfield 11, 3) := dk_180 0 11 (dk_at dksJ33_cardinality_0 14 rfl rfl)
theorem dJ33_cardinality_17 : decode cJ33_cardinality 17 = .ok (.iload_n 2, 1) := dk_28 (dk_at dksJ33_cardinality_0 17 rfl rfl)
theorem dJ33_cardinality_18 : decode cJ33_cardinality 18 = .ok (.laload, 1) := dk_47 (dk_at dksJ33_cardinality_0 18 rfl rfl)
theorem dJ33_cardinality_19 : decode cJ33_cardinality 19 = .ok (.invokestatic 196, 3) := dk_184 0 196 (dk_at dksJ33_cardinality_0 19 rfl rfl)
theorem dJ33_cardinality_22 : decode cJ33_cardinality 22 = .ok (.iadd, 1) := dk_96 (dk_at dksJ33_cardinality_0 22 rfl rfl)
theorem dJ33_cardinality_23 : decode cJ33_cardinality 23 = .ok (.istore_n 1, 1) := dk_60 (dk_at dksJ33_cardinality_0 23 rfl rfl)
theorem dJ33_cardinality_24 : decode cJ33_cardinality 24 = .ok (.iinc 2 1, 3) := dk_132 2 1 (dk_at dksJ33_cardinality_1 0 rfl rfl)
theorem dJ33_cardinality_27 : decode cJ33_cardinality 27 = .ok (.goto (-23), 3) := dk_167 255 233 (dk_at dksJ33_cardinality_1 3 rfl rfl)
theorem dJ33_cardinality_30 : decode cJ33_cardinality 30 = .ok (.iload_n 1, 1) := dk_27 (dk_at dksJ33_cardinality_1 6 rfl rfl)
theorem dJ33_cardinality_31 : decode cJ33_cardinality 31 = .ok (.ireturn, 1) := dk_172 (dk_at dksJ33_cardinality_1 7 rfl rfl)
abbrev cJ33_get : ByteArray := prog_49_method_26_code
def yJ33_get : MethodName := ⟨RJ33, "get", "(I)Z"⟩
def dkwJ33_get_2 : List UInt8 := [42, 180, 0, 11, 28, 47, 10, 27, 121, 127, 9, 148, 153, 0, 7, 4, 167, 0, 4, 3, 172]
abbrev dktJ33_get_2 : List UInt8 := dkwJ33_get_2 ++ []
def dkwJ33_get_1 : List UInt8 := [182, 0, 45, 183, 0, 146, 191, 42, 182, 0, 56, 27, 184, 0, 52, 61, 28, 42, 180, 0, 7, 162, 0, 22]
abbrev dktJ33_get_1 : List UInt8 := dkwJ33_get_1 ++ dktJ33_get_2
def dkwJ33_get_0 : List UInt8 := [27, 156, 0, 30, 187, 0, 142, 89, 187, 0, 33, 89, 183, 0, 35, 18, 153, 182, 0, 38, 27, 182, 0, 42]
abbrev dktJ33_get_0 : List UInt8 := dkwJ33_get_0 ++ dktJ33_get_1
theorem dksJ33_get_0 : cJ33_get.data.toList.drop 0 = dktJ33_get_0 := by decide +kernel
theorem dksJ33_get_1 : cJ33_get.data.toList.drop 24 = dktJ33_get_1 := dk_seg dksJ33_get_0 24 rfl rfl
theorem dksJ33_get_2 : cJ33_get.data.toList.drop 48 = dktJ33_get_2 := dk_seg dksJ33_get_1 24 rfl rfl
theorem dJ33_get_0 : decode cJ33_get 0 = .ok (.iload_n 1, 1) := dk_27 (dk_at dksJ33_get_0 0 rfl rfl)
theorem dJ33_get_1 : decode cJ33_get 1 = .ok (.ifCond .ge 30, 3) := dk_156 0 30 (dk_at dksJ33_get_0 1 rfl rfl)
theorem dJ33_get_4 : decode cJ33_get 4 = .ok (.new 142, 3) := dk_187 0 142 (dk_at dksJ33_get_0 4 rfl rfl)
theorem dJ33_get_7 : decode cJ33_get 7 = .ok (.dup, 1) := dk_89 (dk_at dksJ33_get_0 7 rfl rfl)
theorem dJ33_get_8 : decode cJ33_get 8 = .ok (.new 33, 3) := dk_187 0 33 (dk_at dksJ33_get_0 8 rfl rfl)
theorem dJ33_get_11 : decode cJ33_get 11 = .ok (.dup, 1) := dk_89 (dk_at dksJ33_get_0 11 rfl rfl)
theorem dJ33_get_12 : decode cJ33_get 12 = .ok (.invokespecial 35, 3) := dk_183 0 35 (dk_at dksJ33_get_0 12 rfl rfl)
theorem dJ33_get_15 : decode cJ33_get 15 = .ok (.ldc 153, 2) := dk_18 153 (dk_at dksJ33_get_0 15 rfl rfl)
theorem dJ33_get_17 : decode cJ33_get 17 = .ok (.invokevirtual 38, 3) := dk_182 0 38 (dk_at dksJ33_get_0 17 rfl rfl)
theorem dJ33_get_20 : decode cJ33_get 20 = .ok (.iload_n 1, 1) := dk_27 (dk_at dksJ33_get_0 20 rfl rfl)
theorem dJ33_get_21 : decode cJ33_get 21 = .ok (.invokevirtual 42, 3) := dk_182 0 42 (dk_at dksJ33_get_0 21 rfl rfl)
theorem dJ33_get_24 : decode cJ33_get 24 = .ok (.invokevirtual 45, 3) := dk_182 0 45 (dk_at dksJ33_get_1 0 rfl rfl)
theorem dJ33_get_27 : decode cJ33_get 27 = .ok (.invokespecial 146, 3) := dk_183 0 146 (dk_at dksJ33_get_1 3 rfl rfl)
theorem dJ33_get_30 : decode cJ33_get 30 = .ok (.athrow, 1) := dk_191 (dk_at dksJ33_get_1 6 rfl rfl)
theorem dJ33_get_31 : decode cJ33_get 31 = .ok (.aload_n 0, 1) := dk_42 (dk_at dksJ33_get_1 7 rfl rfl)
theorem dJ33_get_32 : decode cJ33_get 32 = .ok (.invokevirtual 56, 3) := dk_182 0 56 (dk_at dksJ33_get_1 8 rfl rfl)
theorem dJ33_get_35 : decode cJ33_get 35 = .ok (.iload_n 1, 1) := dk_27 (dk_at dksJ33_get_1 11 rfl rfl)
theorem dJ33_get_36 : decode cJ33_get 36 = .ok (.invokestatic 52, 3) := dk_184 0 52 (dk_at dksJ33_get_1 12 rfl rfl)
theorem dJ33_get_39 : decode cJ33_get 39 = .ok (.istore_n 2, 1) := dk_61 (dk_at dksJ33_get_1 15 rfl rfl)
theorem dJ33_get_40 : decode cJ33_get 40 = .ok (.iload_n 2, 1) := dk_28 (dk_at dksJ33_get_1 16 rfl rfl)
theorem dJ33_get_41 : decode cJ33_get 41 = .ok (.aload_n 0, 1) := dk_42 (dk_at dksJ33_get_1 17 rfl rfl)
theorem dJ33_get_42 : decode cJ33_get 42 = .ok (.getfield 7, 3) := dk_180 0 7 (dk_at dksJ33_get_1 18 rfl rfl)
theorem dJ33_get_45 : decode cJ33_get 45 = .ok (.if_icmp .ge 22, 3) := dk_162 0 22 (dk_at dksJ33_get_1 21 rfl rfl)
theorem dJ33_get_48 : decode cJ33_get 48 = .ok (.aload_n 0, 1) := dk_42 (dk_at dksJ33_get_2 0 rfl rfl)
theorem dJ33_get_49 : decode cJ33_get 49 = .ok (.getfield 11, 3) := dk_180 0 11 (dk_at dksJ33_get_2 1 rfl rfl)
theorem dJ33_get_52 : decode cJ33_get 52 = .ok (.iload_n 2, 1) := dk_28 (dk_at dksJ33_get_2 4 rfl rfl)
theorem dJ33_get_53 : decode cJ33_get 53 = .ok (.laload, 1) := dk_47 (dk_at dksJ33_get_2 5 rfl rfl)
theorem dJ33_get_54 : decode cJ33_get 54 = .ok (.lconst 1, 1) := dk_10 (dk_at dksJ33_get_2 6 rfl rfl)
theorem dJ33_get_55 : decode cJ33_get 55 = .ok (.iload_n 1, 1) := dk_27 (dk_at dksJ33_get_2 7 rfl rfl)
theorem dJ33_get_56 : decode cJ33_get 56 = .ok (.lshl, 1) := dk_121 (dk_at dksJ33_get_2 8 rfl rfl)
theorem dJ33_get_57 : decode cJ33_get 57 = .ok (.land, 1) := dk_127 (dk_at dksJ33_get_2 9 rfl rfl)
theorem dJ33_get_58 : decode cJ33_get 58 = .ok (.lconst 0, 1) := dk_9 (dk_at dksJ33_get_2 10 rfl rfl)
theorem dJ33_get_59 : decode cJ33_get 59 = .ok (.lcmp, 1) := dk_148 (dk_at dksJ33_get_2 11 rfl rfl)
theorem dJ33_get_60 : decode cJ33_get 60 = .ok (.ifCond .eq 7, 3) := dk_153 0 7 (dk_at dksJ33_get_2 12 rfl rfl)
theorem dJ33_get_63 : decode cJ33_get 63 = .ok (.iconst 1, 1) := dk_4 (dk_at dksJ33_get_2 15 rfl rfl)
theorem dJ33_get_64 : decode cJ33_get 64 = .ok (.goto 4, 3) := dk_167 0 4 (dk_at dksJ33_get_2 16 rfl rfl)
theorem dJ33_get_67 : decode cJ33_get 67 = .ok (.iconst 0, 1) := dk_3 (dk_at dksJ33_get_2 19 rfl rfl)
theorem dJ33_get_68 : decode cJ33_get 68 = .ok (.ireturn, 1) := dk_172 (dk_at dksJ33_get_2 20 rfl rfl)
theorem q161 : (Jvm.Cond.initialized "java/util/BitSet") ∈ lw_all := lw_g (lw_at lw_m1 46 rfl) rfl
theorem q685 : (Jvm.Cond.selects "java/util/BitSet" ({ cls := "java/lang/Object", name := "getClass", desc := "()Ljava/lang/Class;" } : Jvm.MethodName) ({ cls := "java/lang/Object", name := "getClass", desc := "()Ljava/lang/Class;" } : Jvm.MethodName)) ∈ lw_all := lw_g (lw_at lw_m3 90 rfl) rfl
theorem q1663 : (Jvm.Cond.instantiable "java/util/BitSet" (3 : Nat)) ∈ lw_all := lw_g (lw_at lw_m7 108 rfl) rfl
theorem q1665 : (Jvm.Cond.instanceMethod ({ cls := "java/util/BitSet", name := "<init>", desc := "()V" } : Jvm.MethodName)) ∈ lw_all := lw_g (lw_at lw_m7 110 rfl) rfl
theorem q1666 : (Jvm.Cond.code ({ cls := "java/util/BitSet", name := "<init>", desc := "()V" } : Jvm.MethodName) prog_49_method_4_code (1 : Nat) (Option.none : Option Jvm.ClassFile.FieldType)) ∈ lw_all := lw_g (lw_at lw_m7 111 rfl) rfl
theorem q1667 : (Jvm.Cond.methodLink "java/util/BitSet" (21 : Nat) ({ cls := "java/lang/Object", name := "<init>", desc := "()V" } : Jvm.MethodName)) ∈ lw_all := lw_g (lw_at lw_m7 112 rfl) rfl
theorem q1668 : (Jvm.Cond.methodLink "java/util/BitSet" (27 : Nat) ({ cls := "java/util/BitSet", name := "initWords", desc := "(I)V" } : Jvm.MethodName)) ∈ lw_all := lw_g (lw_at lw_m7 113 rfl) rfl
theorem q1669 : (Jvm.Cond.privateMethod ({ cls := "java/util/BitSet", name := "initWords", desc := "(I)V" } : Jvm.MethodName)) ∈ lw_tbl := lw_at lw_m7 114 rfl
theorem q1670 : (Jvm.Cond.instanceMethod ({ cls := "java/util/BitSet", name := "initWords", desc := "(I)V" } : Jvm.MethodName)) ∈ lw_all := lw_g (lw_at lw_m7 115 rfl) rfl
theorem q1671 : (Jvm.Cond.code ({ cls := "java/util/BitSet", name := "initWords", desc := "(I)V" } : Jvm.MethodName) prog_49_method_6_code (2 : Nat) (Option.none : Option Jvm.ClassFile.FieldType)) ∈ lw_all := lw_g (lw_at lw_m7 116 rfl) rfl
theorem q1672 : (Jvm.Cond.methodLink "java/util/BitSet" (52 : Nat) ({ cls := "java/util/BitSet", name := "wordIndex", desc := "(I)I" } : Jvm.MethodName)) ∈ lw_all := lw_g (lw_at lw_m7 117 rfl) rfl
theorem q1673 : (Jvm.Cond.static ({ cls := "java/util/BitSet", name := "wordIndex", desc := "(I)I" } : Jvm.MethodName)) ∈ lw_all := lw_g (lw_at lw_m7 118 rfl) rfl
theorem q1674 : (Jvm.Cond.code ({ cls := "java/util/BitSet", name := "wordIndex", desc := "(I)I" } : Jvm.MethodName) prog_49_method_1_code (1 : Nat) (Option.some Jvm.ClassFile.FieldType.int)) ∈ lw_all := lw_g (lw_at lw_m7 119 rfl) rfl
theorem q1675 : (Jvm.Cond.fieldLink "java/util/BitSet" (11 : Nat) "java/util/BitSet" "words" "[J") ∈ lw_all := lw_g (lw_at lw_m7 120 rfl) rfl
theorem q1676 : (Jvm.Cond.fieldLink "java/util/BitSet" (7 : Nat) "java/util/BitSet" "wordsInUse" "I") ∈ lw_all := lw_g (lw_at lw_m7 121 rfl) rfl
theorem q1677 : (Jvm.Cond.fieldLink "java/util/BitSet" (24 : Nat) "java/util/BitSet" "sizeIsSticky" "Z") ∈ lw_all := lw_g (lw_at lw_m7 122 rfl) rfl
theorem q1678 : (Jvm.Cond.lays "java/util/BitSet" "java/util/BitSet" "words" "[J") ∈ lw_all := lw_g (lw_at lw_m7 123 rfl) rfl
theorem q1679 : (Jvm.Cond.soleField "java/util/BitSet" "words") ∈ lw_all := lw_g (lw_at lw_m7 124 rfl) rfl
theorem q1680 : (Jvm.Cond.lays "java/util/BitSet" "java/util/BitSet" "wordsInUse" "I") ∈ lw_all := lw_g (lw_at lw_m7 125 rfl) rfl
theorem q1681 : (Jvm.Cond.soleField "java/util/BitSet" "wordsInUse") ∈ lw_all := lw_g (lw_at lw_m7 126 rfl) rfl
theorem q1682 : (Jvm.Cond.lays "java/util/BitSet" "java/util/BitSet" "sizeIsSticky" "Z") ∈ lw_all := lw_g (lw_at lw_m7 127 rfl) rfl
theorem q1683 : (Jvm.Cond.soleField "java/util/BitSet" "sizeIsSticky") ∈ lw_all := lw_g (lw_at lw_m7 128 rfl) rfl
theorem q1684 : (Jvm.Cond.superclass "java/util/BitSet" "java/lang/Object") ∈ lw_all := lw_g (lw_at lw_m7 129 rfl) rfl
theorem q1687 : (Jvm.Cond.instanceMethod ({ cls := "java/util/BitSet", name := "set", desc := "(I)V" } : Jvm.MethodName)) ∈ lw_all := lw_g (lw_at lw_m7 132 rfl) rfl
theorem q1688 : (Jvm.Cond.selects "java/util/BitSet" ({ cls := "java/util/BitSet", name := "set", desc := "(I)V" } : Jvm.MethodName) ({ cls := "java/util/BitSet", name := "set", desc := "(I)V" } : Jvm.MethodName)) ∈ lw_all := lw_g (lw_at lw_m7 133 rfl) rfl
theorem q1689 : (Jvm.Cond.code ({ cls := "java/util/BitSet", name := "set", desc := "(I)V" } : Jvm.MethodName) prog_49_method_19_code (3 : Nat) (Option.none : Option Jvm.ClassFile.FieldType)) ∈ lw_all := lw_g (lw_at lw_m7 134 rfl) rfl
theorem q1690 : (Jvm.Cond.classLink "java/util/BitSet" (142 : Nat) "java/lang/IndexOutOfBoundsException") ∈ lw_all := lw_g (lw_at lw_m7 135 rfl) rfl
theorem q1691 : (Jvm.Cond.classLink "java/util/BitSet" (33 : Nat) "java/lang/StringBuilder") ∈ lw_all := lw_g (lw_at lw_m7 136 rfl) rfl
theorem q1692 : (Jvm.Cond.methodLink "java/util/BitSet" (35 : Nat) ({ cls := "java/lang/StringBuilder", name := "<init>", desc := "()V" } : Jvm.MethodName)) ∈ lw_all := lw_g (lw_at lw_m7 137 rfl) rfl
theorem q1693 : (Jvm.Cond.stringRef "java/util/BitSet" (153 : Nat) "bitIndex < 0: ") ∈ lw_tbl := lw_at lw_m7 138 rfl
theorem q1694 : (Jvm.Cond.methodLink "java/util/BitSet" (38 : Nat) ({ cls := "java/lang/StringBuilder", name := "append", desc := "(Ljava/lang/String;)Ljava/lang/StringBuilder;" } : Jvm.MethodName)) ∈ lw_all := lw_g (lw_at lw_m7 139 rfl) rfl
theorem q1695 : (Jvm.Cond.methodLink "java/util/BitSet" (42 : Nat) ({ cls := "java/lang/StringBuilder", name := "append", desc := "(I)Ljava/lang/StringBuilder;" } : Jvm.MethodName)) ∈ lw_all := lw_g (lw_at lw_m7 140 rfl) rfl
theorem q1696 : (Jvm.Cond.methodLink "java/util/BitSet" (45 : Nat) ({ cls := "java/lang/StringBuilder", name := "toString", desc := "()Ljava/lang/String;" } : Jvm.MethodName)) ∈ lw_all := lw_g (lw_at lw_m7 141 rfl) rfl
theorem q1697 : (Jvm.Cond.methodLink "java/util/BitSet" (146 : Nat) ({ cls := "java/lang/IndexOutOfBoundsException", name := "<init>", desc := "(Ljava/lang/String;)V" } : Jvm.MethodName)) ∈ lw_all := lw_g (lw_at lw_m7 142 rfl) rfl
theorem q1698 : (Jvm.Cond.methodLink "java/util/BitSet" (155 : Nat) ({ cls := "java/util/BitSet", name := "expandTo", desc := "(I)V" } : Jvm.MethodName)) ∈ lw_all := lw_g (lw_at lw_m7 143 rfl) rfl
theorem q1699 : (Jvm.Cond.privateMethod ({ cls := "java/util/BitSet", name := "expandTo", desc := "(I)V" } : Jvm.MethodName)) ∈ lw_tbl := lw_at lw_m7 144 rfl
theorem q1700 : (Jvm.Cond.instanceMethod ({ cls := "java/util/BitSet", name := "expandTo", desc := "(I)V" } : Jvm.MethodName)) ∈ lw_all := lw_g (lw_at lw_m7 145 rfl) rfl
theorem q1701 : (Jvm.Cond.code ({ cls := "java/util/BitSet", name := "expandTo", desc := "(I)V" } : Jvm.MethodName) prog_49_method_15_code (3 : Nat) (Option.none : Option Jvm.ClassFile.FieldType)) ∈ lw_all := lw_g (lw_at lw_m7 146 rfl) rfl
theorem q1702 : (Jvm.Cond.methodLink "java/util/BitSet" (139 : Nat) ({ cls := "java/util/BitSet", name := "ensureCapacity", desc := "(I)V" } : Jvm.MethodName)) ∈ lw_all := lw_g (lw_at lw_m7 147 rfl) rfl
theorem q1703 : (Jvm.Cond.privateMethod ({ cls := "java/util/BitSet", name := "ensureCapacity", desc := "(I)V" } : Jvm.MethodName)) ∈ lw_tbl := lw_at lw_m7 148 rfl
theorem q1704 : (Jvm.Cond.instanceMethod ({ cls := "java/util/BitSet", name := "ensureCapacity", desc := "(I)V" } : Jvm.MethodName)) ∈ lw_all := lw_g (lw_at lw_m7 149 rfl) rfl
theorem q1705 : (Jvm.Cond.code ({ cls := "java/util/BitSet", name := "ensureCapacity", desc := "(I)V" } : Jvm.MethodName) prog_49_method_14_code (3 : Nat) (Option.none : Option Jvm.ClassFile.FieldType)) ∈ lw_all := lw_g (lw_at lw_m7 150 rfl) rfl
theorem q1706 : (Jvm.Cond.methodLink "java/util/BitSet" (133 : Nat) ({ cls := "java/lang/Math", name := "max", desc := "(II)I" } : Jvm.MethodName)) ∈ lw_all := lw_g (lw_at lw_m7 151 rfl) rfl
theorem q1707 : (Jvm.Cond.methodLink "java/util/BitSet" (59 : Nat) ({ cls := "java/util/Arrays", name := "copyOf", desc := "([JI)[J" } : Jvm.MethodName)) ∈ lw_all := lw_g (lw_at lw_m7 152 rfl) rfl
theorem q1715 : (Jvm.Cond.methodLink "java/util/BitSet" (56 : Nat) ({ cls := "java/util/BitSet", name := "checkInvariants", desc := "()V" } : Jvm.MethodName)) ∈ lw_all := lw_g (lw_at lw_m7 160 rfl) rfl
theorem q1716 : (Jvm.Cond.privateMethod ({ cls := "java/util/BitSet", name := "checkInvariants", desc := "()V" } : Jvm.MethodName)) ∈ lw_tbl := lw_at lw_m7 161 rfl
theorem q1717 : (Jvm.Cond.instanceMethod ({ cls := "java/util/BitSet", name := "checkInvariants", desc := "()V" } : Jvm.MethodName)) ∈ lw_all := lw_g (lw_at lw_m7 162 rfl) rfl
theorem q1718 : (Jvm.Cond.code ({ cls := "java/util/BitSet", name := "checkInvariants", desc := "()V" } : Jvm.MethodName) prog_49_method_2_code (1 : Nat) (Option.none : Option Jvm.ClassFile.FieldType)) ∈ lw_all := lw_g (lw_at lw_m7 163 rfl) rfl
theorem q1719 : (Jvm.Cond.fieldLink "java/util/BitSet" (3 : Nat) "java/util/BitSet" "$assertionsDisabled" "Z") ∈ lw_all := lw_g (lw_at lw_m7 164 rfl) rfl
theorem q1720 : (Jvm.Cond.laysStatic "java/util/BitSet" "$assertionsDisabled" "Z") ∈ lw_tbl := lw_at lw_m7 165 rfl
theorem q1722 : (Jvm.Cond.instanceMethod ({ cls := "java/util/BitSet", name := "nextSetBit", desc := "(I)I" } : Jvm.MethodName)) ∈ lw_all := lw_g (lw_at lw_m7 167 rfl) rfl
theorem q1723 : (Jvm.Cond.selects "java/util/BitSet" ({ cls := "java/util/BitSet", name := "nextSetBit", desc := "(I)I" } : Jvm.MethodName) ({ cls := "java/util/BitSet", name := "nextSetBit", desc := "(I)I" } : Jvm.MethodName)) ∈ lw_all := lw_g (lw_at lw_m7 168 rfl) rfl
theorem q1724 : (Jvm.Cond.code ({ cls := "java/util/BitSet", name := "nextSetBit", desc := "(I)I" } : Jvm.MethodName) prog_49_method_28_code (5 : Nat) (Option.some Jvm.ClassFile.FieldType.int)) ∈ lw_all := lw_g (lw_at lw_m7 169 rfl) rfl
theorem q1725 : (Jvm.Cond.stringRef "java/util/BitSet" (144 : Nat) "fromIndex < 0: ") ∈ lw_tbl := lw_at lw_m7 170 rfl
theorem q1726 : (Jvm.Cond.constantLong "java/util/BitSet" (165 : Nat) (-1 : Int64)) ∈ lw_all := lw_g (lw_at lw_m7 171 rfl) rfl
theorem q1727 : (Jvm.Cond.methodLink "java/util/BitSet" (182 : Nat) ({ cls := "java/lang/Long", name := "numberOfTrailingZeros", desc := "(J)I" } : Jvm.MethodName)) ∈ lw_all := lw_g (lw_at lw_m7 172 rfl) rfl
theorem q1735 : (Jvm.Cond.instanceMethod ({ cls := "java/util/BitSet", name := "nextClearBit", desc := "(I)I" } : Jvm.MethodName)) ∈ lw_all := lw_g (lw_at lw_m7 180 rfl) rfl
theorem q1736 : (Jvm.Cond.selects "java/util/BitSet" ({ cls := "java/util/BitSet", name := "nextClearBit", desc := "(I)I" } : Jvm.MethodName) ({ cls := "java/util/BitSet", name := "nextClearBit", desc := "(I)I" } : Jvm.MethodName)) ∈ lw_all := lw_g (lw_at lw_m7 181 rfl) rfl
theorem q1737 : (Jvm.Cond.code ({ cls := "java/util/BitSet", name := "nextClearBit", desc := "(I)I" } : Jvm.MethodName) prog_49_method_29_code (5 : Nat) (Option.some Jvm.ClassFile.FieldType.int)) ∈ lw_all := lw_g (lw_at lw_m7 182 rfl) rfl
theorem q2062 : (Jvm.Cond.instanceMethod ({ cls := "java/util/BitSet", name := "cardinality", desc := "()I" } : Jvm.MethodName)) ∈ lw_all := lw_g (lw_at lw_m9 27 rfl) rfl
theorem q2063 : (Jvm.Cond.selects "java/util/BitSet" ({ cls := "java/util/BitSet", name := "cardinality", desc := "()I" } : Jvm.MethodName) ({ cls := "java/util/BitSet", name := "cardinality", desc := "()I" } : Jvm.MethodName)) ∈ lw_all := lw_g (lw_at lw_m9 28 rfl) rfl
theorem q2064 : (Jvm.Cond.code ({ cls := "java/util/BitSet", name := "cardinality", desc := "()I" } : Jvm.MethodName) prog_49_method_35_code (3 : Nat) (Option.some Jvm.ClassFile.FieldType.int)) ∈ lw_all := lw_g (lw_at lw_m9 29 rfl) rfl
theorem q2065 : (Jvm.Cond.methodLink "java/util/BitSet" (196 : Nat) ({ cls := "java/lang/Long", name := "bitCount", desc := "(J)I" } : Jvm.MethodName)) ∈ lw_all := lw_g (lw_at lw_m9 30 rfl) rfl
theorem q2073 : (Jvm.Cond.instanceMethod ({ cls := "java/util/BitSet", name := "get", desc := "(I)Z" } : Jvm.MethodName)) ∈ lw_all := lw_g (lw_at lw_m9 38 rfl) rfl
theorem q2074 : (Jvm.Cond.selects "java/util/BitSet" ({ cls := "java/util/BitSet", name := "get", desc := "(I)Z" } : Jvm.MethodName) ({ cls := "java/util/BitSet", name := "get", desc := "(I)Z" } : Jvm.MethodName)) ∈ lw_all := lw_g (lw_at lw_m9 39 rfl) rfl
theorem q2075 : (Jvm.Cond.code ({ cls := "java/util/BitSet", name := "get", desc := "(I)Z" } : Jvm.MethodName) prog_49_method_26_code (3 : Nat) (Option.some Jvm.ClassFile.FieldType.boolean)) ∈ lw_all := lw_g (lw_at lw_m9 40 rfl) rfl
theorem q2875 : (Jvm.Cond.castable "java/util/BitSet" "java/lang/Object") ∈ lw_tbl := lw_at lw_m12 120 rfl
theorem in_J33 : ∀ w ∈ wsJ330, w ∈ lw_all := lw_in wsJ330 [1678, 1680, 1682] (by decide +kernel) (by decide +kernel)
/-! java/lang/Long -/
set_option maxRecDepth 100000
def RJ34 : String := "java/lang/Long"
abbrev cJ34_numberOfTrailingZeros : ByteArray := prog_28_method_49_code
def yJ34_numberOfTrailingZeros : MethodName := ⟨RJ34, "numberOfTrailingZeros", "(J)I"⟩
def dkwJ34_numberOfTrailingZeros_1 : List UInt8 := [184, 1, 55, 172]
abbrev dktJ34_numberOfTrailingZeros_1 : List UInt8 := dkwJ34_numberOfTrailingZeros_1 ++ []
def dkwJ34_numberOfTrailingZeros_0 : List UInt8 := [30, 136, 61, 28, 154, 0, 17, 16, 32, 30, 16, 32, 125, 136, 184, 1, 55, 96, 167, 0, 7, 28]
abbrev dktJ34_numberOfTrailingZeros_0 : List UInt8 := dkwJ34_numberOfTrailingZeros_0 ++ dktJ34_numberOfTrailingZeros_1
theorem dksJ34_numberOfTrailingZeros_0 : cJ34_numberOfTrailingZeros.data.toList.drop 0 = dktJ34_numberOfTrailingZeros_0 := by decide +kernel
theorem dksJ34_numberOfTrailingZeros_1 : cJ34_numberOfTrailingZeros.data.toList.drop 22 = dktJ34_numberOfTrailingZeros_1 := dk_seg dksJ34_numberOfTrailingZeros_0 22 rfl rfl
theorem dJ34_numberOfTrailingZeros_0 : decode cJ34_numberOfTrailingZeros 0 = .ok (.lload_n 0, 1) := dk_30 (dk_at dksJ34_numberOfTrailingZeros_0 0 rfl rfl)
theorem dJ34_numberOfTrailingZeros_1 : decode cJ34_numberOfTrailingZeros 1 = .ok (.l2i, 1) := dk_136 (dk_at dksJ34_numberOfTrailingZeros_0 1 rfl rfl)
theorem dJ34_numberOfTrailingZeros_2 : decode cJ34_numberOfTrailingZeros 2 = .ok (.istore_n 2, 1) := dk_61 (dk_at dksJ34_numberOfTrailingZeros_0 2 rfl rfl)
theorem dJ34_numberOfTrailingZeros_3 : decode cJ34_numberOfTrailingZeros 3 = .ok (.iload_n 2, 1) := dk_28 (dk_at dksJ34_numberOfTrailingZeros_0 3 rfl rfl)
theorem dJ34_numberOfTrailingZeros_4 : decode cJ34_numberOfTrailingZeros 4 = .ok (.ifCond .ne 17, 3) := dk_154 0 17 (dk_at dksJ34_numberOfTrailingZeros_0 4 rfl rfl)
theorem dJ34_numberOfTrailingZeros_7 : decode cJ34_numberOfTrailingZeros 7 = .ok (.bipush 32, 2) := dk_16 32 (dk_at dksJ34_numberOfTrailingZeros_0 7 rfl rfl)
theorem dJ34_numberOfTrailingZeros_9 : decode cJ34_numberOfTrailingZeros 9 = .ok (.lload_n 0, 1) := dk_30 (dk_at dksJ34_numberOfTrailingZeros_0 9 rfl rfl)
theorem dJ34_numberOfTrailingZeros_10 : decode cJ34_numberOfTrailingZeros 10 = .ok (.bipush 32, 2) := dk_16 32 (dk_at dksJ34_numberOfTrailingZeros_0 10 rfl rfl)
theorem dJ34_numberOfTrailingZeros_12 : decode cJ34_numberOfTrailingZeros 12 = .ok (.lushr, 1) := dk_125 (dk_at dksJ34_numberOfTrailingZeros_0 12 rfl rfl)
theorem dJ34_numberOfTrailingZeros_13 : decode cJ34_numberOfTrailingZeros 13 = .ok (.l2i, 1) := dk_136 (dk_at dksJ34_numberOfTrailingZeros_0 13 rfl rfl)
theorem dJ34_numberOfTrailingZeros_14 : decode cJ34_numberOfTrailingZeros 14 = .ok (.invokestatic 311, 3) := dk_184 1 55 (dk_at dksJ34_numberOfTrailingZeros_0 14 rfl rfl)
theorem dJ34_numberOfTrailingZeros_17 : decode cJ34_numberOfTrailingZeros 17 = .ok (.iadd, 1) := dk_96 (dk_at dksJ34_numberOfTrailingZeros_0 17 rfl rfl)
theorem dJ34_numberOfTrailingZeros_18 : decode cJ34_numberOfTrailingZeros 18 = .ok (.goto 7, 3) := dk_167 0 7 (dk_at dksJ34_numberOfTrailingZeros_0 18 rfl rfl)
theorem dJ34_numberOfTrailingZeros_21 : decode cJ34_numberOfTrailingZeros 21 = .ok (.iload_n 2, 1) := dk_28 (dk_at dksJ34_numberOfTrailingZeros_0 21 rfl rfl)
theorem dJ34_numberOfTrailingZeros_22 : decode cJ34_numberOfTrailingZeros 22 = .ok (.invokestatic 311, 3) := dk_184 1 55 (dk_at dksJ34_numberOfTrailingZeros_1 0 rfl rfl)
theorem dJ34_numberOfTrailingZeros_25 : decode cJ34_numberOfTrailingZeros 25 = .ok (.ireturn, 1) := dk_172 (dk_at dksJ34_numberOfTrailingZeros_1 3 rfl rfl)
abbrev cJ34_bitCount : ByteArray := prog_28_method_50_code
def yJ34_bitCount : MethodName := ⟨RJ34, "bitCount", "(J)I"⟩
def dkwJ34_bitCount_2 : List UInt8 := [30, 30, 16, 32, 125, 97, 63, 30, 136, 16, 127, 126, 172]
abbrev dktJ34_bitCount_2 : List UInt8 := dkwJ34_bitCount_2 ++ []
def dkwJ34_bitCount_1 : List UInt8 := [30, 30, 7, 125, 97, 20, 1, 62, 127, 63, 30, 30, 16, 8, 125, 97, 63, 30, 30, 16, 16, 125, 97, 63]
abbrev dktJ34_bitCount_1 : List UInt8 := dkwJ34_bitCount_1 ++ dktJ34_bitCount_2
def dkwJ34_bitCount_0 : List UInt8 := [30, 30, 4, 125, 20, 1, 58, 127, 101, 63, 30, 20, 1, 60, 127, 30, 5, 125, 20, 1, 60, 127, 97, 63]
abbrev dktJ34_bitCount_0 : List UInt8 := dkwJ34_bitCount_0 ++ dktJ34_bitCount_1
theorem dksJ34_bitCount_0 : cJ34_bitCount.data.toList.drop 0 = dktJ34_bitCount_0 := by decide +kernel
theorem dksJ34_bitCount_1 : cJ34_bitCount.data.toList.drop 24 = dktJ34_bitCount_1 := dk_seg dksJ34_bitCount_0 24 rfl rfl
theorem dksJ34_bitCount_2 : cJ34_bitCount.data.toList.drop 48 = dktJ34_bitCount_2 := dk_seg dksJ34_bitCount_1 24 rfl rfl
theorem dJ34_bitCount_0 : decode cJ34_bitCount 0 = .ok (.lload_n 0, 1) := dk_30 (dk_at dksJ34_bitCount_0 0 rfl rfl)
theorem dJ34_bitCount_1 : decode cJ34_bitCount 1 = .ok (.lload_n 0, 1) := dk_30 (dk_at dksJ34_bitCount_0 1 rfl rfl)
theorem dJ34_bitCount_2 : decode cJ34_bitCount 2 = .ok (.iconst 1, 1) := dk_4 (dk_at dksJ34_bitCount_0 2 rfl rfl)
theorem dJ34_bitCount_3 : decode cJ34_bitCount 3 = .ok (.lushr, 1) := dk_125 (dk_at dksJ34_bitCount_0 3 rfl rfl)
theorem dJ34_bitCount_4 : decode cJ34_bitCount 4 = .ok (.ldc2_w 314, 3) := dk_20 1 58 (dk_at dksJ34_bitCount_0 4 rfl rfl)
theorem dJ34_bitCount_7 : decode cJ34_bitCount 7 = .ok (.land, 1) := dk_127 (dk_at dksJ34_bitCount_0 7 rfl rfl)
theorem dJ34_bitCount_8 : decode cJ34_bitCount 8 = .ok (.lsub, 1) := dk_101 (dk_at dksJ34_bitCount_0 8 rfl rfl)
theorem dJ34_bitCount_9 : decode cJ34_bitCount 9 = .ok (.lstore_n 0, 1) := dk_63 (dk_at dksJ34_bitCount_0 9 rfl rfl)
theorem dJ34_bitCount_10 : decode cJ34_bitCount 10 = .ok (.lload_n 0, 1) := dk_30 (dk_at dksJ34_bitCount_0 10 rfl rfl)
theorem dJ34_bitCount_11 : decode cJ34_bitCount 11 = .ok (.ldc2_w 316, 3) := dk_20 1 60 (dk_at dksJ34_bitCount_0 11 rfl rfl)
theorem dJ34_bitCount_14 : decode cJ34_bitCount 14 = .ok (.land, 1) := dk_127 (dk_at dksJ34_bitCount_0 14 rfl rfl)
theorem dJ34_bitCount_15 : decode cJ34_bitCount 15 = .ok (.lload_n 0, 1) := dk_30 (dk_at dksJ34_bitCount_0 15 rfl rfl)
theorem dJ34_bitCount_16 : decode cJ34_bitCount 16 = .ok (.iconst 2, 1) := dk_5 (dk_at dksJ34_bitCount_0 16 rfl rfl)
theorem dJ34_bitCount_17 : decode cJ34_bitCount 17 = .ok (.lushr, 1) := dk_125 (dk_at dksJ34_bitCount_0 17 rfl rfl)
theorem dJ34_bitCount_18 : decode cJ34_bitCount 18 = .ok (.ldc2_w 316, 3) := dk_20 1 60 (dk_at dksJ34_bitCount_0 18 rfl rfl)
theorem dJ34_bitCount_21 : decode cJ34_bitCount 21 = .ok (.land, 1) := dk_127 (dk_at dksJ34_bitCount_0 21 rfl rfl)
theorem dJ34_bitCount_22 : decode cJ34_bitCount 22 = .ok (.ladd, 1) := dk_97 (dk_at dksJ34_bitCount_0 22 rfl rfl)
theorem dJ34_bitCount_23 : decode cJ34_bitCount 23 = .ok (.lstore_n 0, 1) := dk_63 (dk_at dksJ34_bitCount_0 23 rfl rfl)
theorem dJ34_bitCount_24 : decode cJ34_bitCount 24 = .ok (.lload_n 0, 1) := dk_30 (dk_at dksJ34_bitCount_1 0 rfl rfl)
theorem dJ34_bitCount_25 : decode cJ34_bitCount 25 = .ok (.lload_n 0, 1) := dk_30 (dk_at dksJ34_bitCount_1 1 rfl rfl)
theorem dJ34_bitCount_26 : decode cJ34_bitCount 26 = .ok (.iconst 4, 1) := dk_7 (dk_at dksJ34_bitCount_1 2 rfl rfl)
theorem dJ34_bitCount_27 : decode cJ34_bitCount 27 = .ok (.lushr, 1) := dk_125 (dk_at dksJ34_bitCount_1 3 rfl rfl)
theorem dJ34_bitCount_28 : decode cJ34_bitCount 28 = .ok (.ladd, 1) := dk_97 (dk_at dksJ34_bitCount_1 4 rfl rfl)
theorem dJ34_bitCount_29 : decode cJ34_bitCount 29 = .ok (.ldc2_w 318, 3) := dk_20 1 62 (dk_at dksJ34_bitCount_1 5 rfl rfl)
theorem dJ34_bitCount_32 : decode cJ34_bitCount 32 = .ok (.land, 1) := dk_127 (dk_at dksJ34_bitCount_1 8 rfl rfl)
theorem dJ34_bitCount_33 : decode cJ34_bitCount 33 = .ok (.lstore_n 0, 1) := dk_63 (dk_at dksJ34_bitCount_1 9 rfl rfl)
theorem dJ34_bitCount_34 : decode cJ34_bitCount 34 = .ok (.lload_n 0, 1) := dk_30 (dk_at dksJ34_bitCount_1 10 rfl rfl)
theorem dJ34_bitCount_35 : decode cJ34_bitCount 35 = .ok (.lload_n 0, 1) := dk_30 (dk_at dksJ34_bitCount_1 11 rfl rfl)
theorem dJ34_bitCount_36 : decode cJ34_bitCount 36 = .ok (.bipush 8, 2) := dk_16 8 (dk_at dksJ34_bitCount_1 12 rfl rfl)
theorem dJ34_bitCount_38 : decode cJ34_bitCount 38 = .ok (.lushr, 1) := dk_125 (dk_at dksJ34_bitCount_1 14 rfl rfl)
theorem dJ34_bitCount_39 : decode cJ34_bitCount 39 = .ok (.ladd, 1) := dk_97 (dk_at dksJ34_bitCount_1 15 rfl rfl)
theorem dJ34_bitCount_40 : decode cJ34_bitCount 40 = .ok (.lstore_n 0, 1) := dk_63 (dk_at dksJ34_bitCount_1 16 rfl rfl)
theorem dJ34_bitCount_41 : decode cJ34_bitCount 41 = .ok (.lload_n 0, 1) := dk_30 (dk_at dksJ34_bitCount_1 17 rfl rfl)
theorem dJ34_bitCount_42 : decode cJ34_bitCount 42 = .ok (.lload_n 0, 1) := dk_30 (dk_at dksJ34_bitCount_1 18 rfl rfl)
theorem dJ34_bitCount_43 : decode cJ34_bitCount 43 = .ok (.bipush 16, 2) := dk_16 16 (dk_at dksJ34_bitCount_1 19 rfl rfl)
theorem dJ34_bitCount_45 : decode cJ34_bitCount 45 = .ok (.lushr, 1) := dk_125 (dk_at dksJ34_bitCount_1 21 rfl rfl)
theorem dJ34_bitCount_46 : decode cJ34_bitCount 46 = .ok (.ladd, 1) := dk_97 (dk_at dksJ34_bitCount_1 22 rfl rfl)
theorem dJ34_bitCount_47 : decode cJ34_bitCount 47 = .ok (.lstore_n 0, 1) := dk_63 (dk_at dksJ34_bitCount_1 23 rfl rfl)
theorem dJ34_bitCount_48 : decode cJ34_bitCount 48 = .ok (.lload_n 0, 1) := dk_30 (dk_at dksJ34_bitCount_2 0 rfl rfl)
theorem dJ34_bitCount_49 : decode cJ34_bitCount 49 = .ok (.lload_n 0, 1) := dk_30 (dk_at dksJ34_bitCount_2 1 rfl rfl)
theorem dJ34_bitCount_50 : decode cJ34_bitCount 50 = .ok (.bipush 32, 2) := dk_16 32 (dk_at dksJ34_bitCount_2 2 rfl rfl)
theorem dJ34_bitCount_52 : decode cJ34_bitCount 52 = .ok (.lushr, 1) := dk_125 (dk_at dksJ34_bitCount_2 4 rfl rfl)
theorem dJ34_bitCount_53 : decode cJ34_bitCount 53 = .ok (.ladd, 1) := dk_97 (dk_at dksJ34_bitCount_2 5 rfl rfl)
theorem dJ34_bitCount_54 : decode cJ34_bitCount 54 = .ok (.lstore_n 0, 1) := dk_63 (dk_at dksJ34_bitCount_2 6 rfl rfl)
theorem dJ34_bitCount_55 : decode cJ34_bitCount 55 = .ok (.lload_n 0, 1) := dk_30 (dk_at dksJ34_bitCount_2 7 rfl rfl)
theorem dJ34_bitCount_56 : decode cJ34_bitCount 56 = .ok (.l2i, 1) := dk_136 (dk_at dksJ34_bitCount_2 8 rfl rfl)
theorem dJ34_bitCount_57 : decode cJ34_bitCount 57 = .ok (.bipush 127, 2) := dk_16 127 (dk_at dksJ34_bitCount_2 9 rfl rfl)
theorem dJ34_bitCount_59 : decode cJ34_bitCount 59 = .ok (.iand, 1) := dk_126 (dk_at dksJ34_bitCount_2 11 rfl rfl)
theorem dJ34_bitCount_60 : decode cJ34_bitCount 60 = .ok (.ireturn, 1) := dk_172 (dk_at dksJ34_bitCount_2 12 rfl rfl)
theorem q162 : (Jvm.Cond.initialized "java/lang/Long") ∈ lw_all := lw_g (lw_at lw_m1 47 rfl) rfl
theorem q1728 : (Jvm.Cond.static ({ cls := "java/lang/Long", name := "numberOfTrailingZeros", desc := "(J)I" } : Jvm.MethodName)) ∈ lw_all := lw_g (lw_at lw_m7 173 rfl) rfl
theorem q1729 : (Jvm.Cond.code ({ cls := "java/lang/Long", name := "numberOfTrailingZeros", desc := "(J)I" } : Jvm.MethodName) prog_28_method_49_code (3 : Nat) (Option.some Jvm.ClassFile.FieldType.int)) ∈ lw_all := lw_g (lw_at lw_m7 174 rfl) rfl
theorem q1730 : (Jvm.Cond.methodLink "java/lang/Long" (311 : Nat) ({ cls := "java/lang/Integer", name := "numberOfTrailingZeros", desc := "(I)I" } : Jvm.MethodName)) ∈ lw_all := lw_g (lw_at lw_m7 175 rfl) rfl
theorem q2066 : (Jvm.Cond.static ({ cls := "java/lang/Long", name := "bitCount", desc := "(J)I" } : Jvm.MethodName)) ∈ lw_all := lw_g (lw_at lw_m9 31 rfl) rfl
theorem q2067 : (Jvm.Cond.code ({ cls := "java/lang/Long", name := "bitCount", desc := "(J)I" } : Jvm.MethodName) prog_28_method_50_code (2 : Nat) (Option.some Jvm.ClassFile.FieldType.int)) ∈ lw_all := lw_g (lw_at lw_m9 32 rfl) rfl
theorem q2068 : (Jvm.Cond.constantLong "java/lang/Long" (314 : Nat) (6148914691236517205 : Int64)) ∈ lw_all := lw_g (lw_at lw_m9 33 rfl) rfl
theorem q2069 : (Jvm.Cond.constantLong "java/lang/Long" (316 : Nat) (3689348814741910323 : Int64)) ∈ lw_all := lw_g (lw_at lw_m9 34 rfl) rfl
theorem q2070 : (Jvm.Cond.constantLong "java/lang/Long" (318 : Nat) (1085102592571150095 : Int64)) ∈ lw_all := lw_g (lw_at lw_m9 35 rfl) rfl
/-! java/util/ConcurrentModificationException -/
set_option maxRecDepth 100000
def RJ35 : String := "java/util/ConcurrentModificationException"
def TJ35 : u_T := fun k => match k with
  | 0 => ("java/lang/Throwable", "cause", "Ljava/lang/Throwable;", false)
  | 1 => ("java/lang/Throwable", "stackTrace", "[Ljava/lang/StackTraceElement;", false)
  | 2 => ("java/lang/Throwable", "suppressedExceptions", "Ljava/util/List;", false)
  | 3 => ("java/lang/Throwable", "detailMessage", "Ljava/lang/String;", false)
  | 4 => ("java/lang/Throwable", "backtrace", "Ljava/lang/Object;", false)
  | _ => ("java/lang/Throwable", "depth", "I", false)
def tyJ35 : Nat → FieldType := fun k => match k with
  | 0 => .object "java/lang/Throwable"
  | 1 => .array (.object "java/lang/StackTraceElement")
  | 2 => .object "java/util/List"
  | 3 => .object "java/lang/String"
  | 4 => .object "java/lang/Object"
  | _ => .int
abbrev wsJ350 : List Cond := u_ws RJ35 TJ35 6
theorem nmJ35 : ∀ a, a < 6 → ∀ b, b < 6 → a ≠ b → (TJ35 a).2.1 ≠ (TJ35 b).2.1 := by decide +kernel
theorem tyJ35_ok : ∀ k, k < 6 → parseFieldDescriptor (TJ35 k).2.2.1 = some (tyJ35 k) := by decide +kernel
abbrev cJ35_init : ByteArray := prog_51_method_1_code
def yJ35_init : MethodName := ⟨RJ35, "<init>", "()V"⟩
theorem dJ35_init_0 : decode cJ35_init 0 = .ok (.aload_n 0, 1) := by decide +kernel
theorem dJ35_init_1 : decode cJ35_init 1 = .ok (.invokespecial 1, 3) := by decide +kernel
theorem dJ35_init_4 : decode cJ35_init 4 = .ok (.return_, 1) := by decide +kernel
theorem q164 : (Jvm.Cond.initialized "java/util/ConcurrentModificationException") ∈ lw_all := lw_g (lw_at lw_m1 49 rfl) rfl
theorem q386 : (Jvm.Cond.selects "java/util/ConcurrentModificationException" ({ cls := "java/lang/Throwable", name := "fillInStackTrace", desc := "()Ljava/lang/Throwable;" } : Jvm.MethodName) ({ cls := "java/lang/Throwable", name := "fillInStackTrace", desc := "()Ljava/lang/Throwable;" } : Jvm.MethodName)) ∈ lw_all := lw_g (lw_at lw_m2 31 rfl) rfl
theorem q686 : (Jvm.Cond.selects "java/util/ConcurrentModificationException" ({ cls := "java/lang/Object", name := "getClass", desc := "()Ljava/lang/Class;" } : Jvm.MethodName) ({ cls := "java/lang/Object", name := "getClass", desc := "()Ljava/lang/Class;" } : Jvm.MethodName)) ∈ lw_all := lw_g (lw_at lw_m3 91 rfl) rfl
theorem q1384 : (Jvm.Cond.selects "java/util/ConcurrentModificationException" ({ cls := "java/lang/Throwable", name := "toString", desc := "()Ljava/lang/String;" } : Jvm.MethodName) ({ cls := "java/lang/Throwable", name := "toString", desc := "()Ljava/lang/String;" } : Jvm.MethodName)) ∈ lw_all := lw_g (lw_at lw_m6 69 rfl) rfl
theorem q1396 : (Jvm.Cond.selects "java/util/ConcurrentModificationException" ({ cls := "java/lang/Throwable", name := "getLocalizedMessage", desc := "()Ljava/lang/String;" } : Jvm.MethodName) ({ cls := "java/lang/Throwable", name := "getLocalizedMessage", desc := "()Ljava/lang/String;" } : Jvm.MethodName)) ∈ lw_all := lw_g (lw_at lw_m6 81 rfl) rfl
theorem q1407 : (Jvm.Cond.selects "java/util/ConcurrentModificationException" ({ cls := "java/lang/Throwable", name := "getMessage", desc := "()Ljava/lang/String;" } : Jvm.MethodName) ({ cls := "java/lang/Throwable", name := "getMessage", desc := "()Ljava/lang/String;" } : Jvm.MethodName)) ∈ lw_all := lw_g (lw_at lw_m6 92 rfl) rfl
theorem q1781 : (Jvm.Cond.instantiable "java/util/ConcurrentModificationException" (6 : Nat)) ∈ lw_all := lw_g (lw_at lw_m7 226 rfl) rfl
theorem q1782 : (Jvm.Cond.castable "java/util/ConcurrentModificationException" "java/util/ConcurrentModificationException") ∈ lw_tbl := lw_at lw_m7 227 rfl
theorem q1783 : (Jvm.Cond.selects "java/util/ConcurrentModificationException" ({ cls := "java/lang/Throwable", name := "fillInStackTrace", desc := "(I)Ljava/lang/Throwable;" } : Jvm.MethodName) ({ cls := "java/lang/Throwable", name := "fillInStackTrace", desc := "(I)Ljava/lang/Throwable;" } : Jvm.MethodName)) ∈ lw_all := lw_g (lw_at lw_m7 228 rfl) rfl
theorem q1784 : (Jvm.Cond.lays "java/util/ConcurrentModificationException" "java/lang/Throwable" "cause" "Ljava/lang/Throwable;") ∈ lw_all := lw_g (lw_at lw_m7 229 rfl) rfl
theorem q1785 : (Jvm.Cond.lays "java/util/ConcurrentModificationException" "java/lang/Throwable" "stackTrace" "[Ljava/lang/StackTraceElement;") ∈ lw_all := lw_g (lw_at lw_m7 230 rfl) rfl
theorem q1786 : (Jvm.Cond.lays "java/util/ConcurrentModificationException" "java/lang/Throwable" "suppressedExceptions" "Ljava/util/List;") ∈ lw_all := lw_g (lw_at lw_m7 231 rfl) rfl
theorem q1787 : (Jvm.Cond.lays "java/util/ConcurrentModificationException" "java/lang/Throwable" "detailMessage" "Ljava/lang/String;") ∈ lw_all := lw_g (lw_at lw_m7 232 rfl) rfl
theorem q1788 : (Jvm.Cond.lays "java/util/ConcurrentModificationException" "java/lang/Throwable" "backtrace" "Ljava/lang/Object;") ∈ lw_all := lw_g (lw_at lw_m7 233 rfl) rfl
theorem q1790 : (Jvm.Cond.instanceMethod ({ cls := "java/util/ConcurrentModificationException", name := "<init>", desc := "()V" } : Jvm.MethodName)) ∈ lw_all := lw_g (lw_at lw_m7 235 rfl) rfl
theorem q1791 : (Jvm.Cond.code ({ cls := "java/util/ConcurrentModificationException", name := "<init>", desc := "()V" } : Jvm.MethodName) prog_51_method_1_code (1 : Nat) (Option.none : Option Jvm.ClassFile.FieldType)) ∈ lw_all := lw_g (lw_at lw_m7 236 rfl) rfl
theorem q1792 : (Jvm.Cond.methodLink "java/util/ConcurrentModificationException" (1 : Nat) ({ cls := "java/lang/RuntimeException", name := "<init>", desc := "()V" } : Jvm.MethodName)) ∈ lw_all := lw_g (lw_at lw_m7 237 rfl) rfl
theorem q1793 : (Jvm.Cond.lays "java/util/ConcurrentModificationException" "java/lang/Throwable" "depth" "I") ∈ lw_all := lw_g (lw_at lw_m7 238 rfl) rfl
theorem q1794 : (Jvm.Cond.superclass "java/util/ConcurrentModificationException" "java/lang/RuntimeException") ∈ lw_all := lw_g (lw_at lw_m7 239 rfl) rfl
theorem q2877 : (Jvm.Cond.castable "java/util/ConcurrentModificationException" "java/lang/Object") ∈ lw_tbl := lw_at lw_m12 122 rfl
theorem in_J35 : ∀ w ∈ wsJ350, w ∈ lw_all := lw_in wsJ350 [1784, 1785, 1786, 1787, 1788, 1793] (by decide +kernel) (by decide +kernel)
/-! java/lang/ArrayIndexOutOfBoundsException -/
set_option maxRecDepth 100000
def RJ36 : String := "java/lang/ArrayIndexOutOfBoundsException"
def TJ36 : u_T := fun k => match k with
  | 0 => ("java/lang/Throwable", "backtrace", "Ljava/lang/Object;", false)
  | 1 => ("java/lang/Throwable", "detailMessage", "Ljava/lang/String;", false)
  | 2 => ("java/lang/Throwable", "cause", "Ljava/lang/Throwable;", false)
  | 3 => ("java/lang/Throwable", "stackTrace", "[Ljava/lang/StackTraceElement;", false)
  | 4 => ("java/lang/Throwable", "depth", "I", false)
  | _ => ("java/lang/Throwable", "suppressedExceptions", "Ljava/util/List;", false)
def tyJ36 : Nat → FieldType := fun k => match k with
  | 0 => .object "java/lang/Object"
  | 1 => .object "java/lang/String"
  | 2 => .object "java/lang/Throwable"
  | 3 => .array (.object "java/lang/StackTraceElement")
  | 4 => .int
  | _ => .object "java/util/List"
abbrev wsJ360 : List Cond := u_ws RJ36 TJ36 6
theorem nmJ36 : ∀ a, a < 6 → ∀ b, b < 6 → a ≠ b → (TJ36 a).2.1 ≠ (TJ36 b).2.1 := by decide +kernel
theorem tyJ36_ok : ∀ k, k < 6 → parseFieldDescriptor (TJ36 k).2.2.1 = some (tyJ36 k) := by decide +kernel
abbrev cJ36_init : ByteArray := prog_17_method_2_code
def yJ36_init : MethodName := ⟨RJ36, "<init>", "(Ljava/lang/String;)V"⟩
def dkwJ36_init_0 : List UInt8 := [42, 43, 183, 0, 7, 177]
abbrev dktJ36_init_0 : List UInt8 := dkwJ36_init_0 ++ []
theorem dksJ36_init_0 : cJ36_init.data.toList.drop 0 = dktJ36_init_0 := by decide +kernel
theorem dJ36_init_0 : decode cJ36_init 0 = .ok (.aload_n 0, 1) := dk_42 (dk_at dksJ36_init_0 0 rfl rfl)
theorem dJ36_init_1 : decode cJ36_init 1 = .ok (.aload_n 1, 1) := dk_43 (dk_at dksJ36_init_0 1 rfl rfl)
theorem dJ36_init_2 : decode cJ36_init 2 = .ok (.invokespecial 7, 3) := dk_183 0 7 (dk_at dksJ36_init_0 2 rfl rfl)
theorem dJ36_init_5 : decode cJ36_init 5 = .ok (.return_, 1) := dk_177 (dk_at dksJ36_init_0 5 rfl rfl)
theorem q165 : (Jvm.Cond.initialized "java/lang/ArrayIndexOutOfBoundsException") ∈ lw_all := lw_g (lw_at lw_m1 50 rfl) rfl
theorem q382 : (Jvm.Cond.selects "java/lang/ArrayIndexOutOfBoundsException" ({ cls := "java/lang/Throwable", name := "fillInStackTrace", desc := "()Ljava/lang/Throwable;" } : Jvm.MethodName) ({ cls := "java/lang/Throwable", name := "fillInStackTrace", desc := "()Ljava/lang/Throwable;" } : Jvm.MethodName)) ∈ lw_all := lw_g (lw_at lw_m2 27 rfl) rfl
theorem q675 : (Jvm.Cond.selects "java/lang/ArrayIndexOutOfBoundsException" ({ cls := "java/lang/Object", name := "getClass", desc := "()Ljava/lang/Class;" } : Jvm.MethodName) ({ cls := "java/lang/Object", name := "getClass", desc := "()Ljava/lang/Class;" } : Jvm.MethodName)) ∈ lw_all := lw_g (lw_at lw_m3 80 rfl) rfl
theorem q1194 : (Jvm.Cond.selects "java/lang/ArrayIndexOutOfBoundsException" ({ cls := "java/lang/Object", name := "equals", desc := "(Ljava/lang/Object;)Z" } : Jvm.MethodName) ({ cls := "java/lang/Object", name := "equals", desc := "(Ljava/lang/Object;)Z" } : Jvm.MethodName)) ∈ lw_all := lw_g (lw_at lw_m5 119 rfl) rfl
theorem q1380 : (Jvm.Cond.selects "java/lang/ArrayIndexOutOfBoundsException" ({ cls := "java/lang/Throwable", name := "toString", desc := "()Ljava/lang/String;" } : Jvm.MethodName) ({ cls := "java/lang/Throwable", name := "toString", desc := "()Ljava/lang/String;" } : Jvm.MethodName)) ∈ lw_all := lw_g (lw_at lw_m6 65 rfl) rfl
theorem q1392 : (Jvm.Cond.selects "java/lang/ArrayIndexOutOfBoundsException" ({ cls := "java/lang/Throwable", name := "getLocalizedMessage", desc := "()Ljava/lang/String;" } : Jvm.MethodName) ({ cls := "java/lang/Throwable", name := "getLocalizedMessage", desc := "()Ljava/lang/String;" } : Jvm.MethodName)) ∈ lw_all := lw_g (lw_at lw_m6 77 rfl) rfl
theorem q1403 : (Jvm.Cond.selects "java/lang/ArrayIndexOutOfBoundsException" ({ cls := "java/lang/Throwable", name := "getMessage", desc := "()Ljava/lang/String;" } : Jvm.MethodName) ({ cls := "java/lang/Throwable", name := "getMessage", desc := "()Ljava/lang/String;" } : Jvm.MethodName)) ∈ lw_all := lw_g (lw_at lw_m6 88 rfl) rfl
theorem q1832 : (Jvm.Cond.instantiable "java/lang/ArrayIndexOutOfBoundsException" (6 : Nat)) ∈ lw_all := lw_g (lw_at lw_m8 37 rfl) rfl
theorem q1833 : (Jvm.Cond.instanceMethod ({ cls := "java/lang/ArrayIndexOutOfBoundsException", name := "<init>", desc := "(Ljava/lang/String;)V" } : Jvm.MethodName)) ∈ lw_all := lw_g (lw_at lw_m8 38 rfl) rfl
theorem q1834 : (Jvm.Cond.code ({ cls := "java/lang/ArrayIndexOutOfBoundsException", name := "<init>", desc := "(Ljava/lang/String;)V" } : Jvm.MethodName) prog_17_method_2_code (2 : Nat) (Option.none : Option Jvm.ClassFile.FieldType)) ∈ lw_all := lw_g (lw_at lw_m8 39 rfl) rfl
theorem q1835 : (Jvm.Cond.methodLink "java/lang/ArrayIndexOutOfBoundsException" (7 : Nat) ({ cls := "java/lang/IndexOutOfBoundsException", name := "<init>", desc := "(Ljava/lang/String;)V" } : Jvm.MethodName)) ∈ lw_all := lw_g (lw_at lw_m8 40 rfl) rfl
theorem q1836 : (Jvm.Cond.lays "java/lang/ArrayIndexOutOfBoundsException" "java/lang/Throwable" "backtrace" "Ljava/lang/Object;") ∈ lw_all := lw_g (lw_at lw_m8 41 rfl) rfl
theorem q1837 : (Jvm.Cond.lays "java/lang/ArrayIndexOutOfBoundsException" "java/lang/Throwable" "detailMessage" "Ljava/lang/String;") ∈ lw_all := lw_g (lw_at lw_m8 42 rfl) rfl
theorem q1838 : (Jvm.Cond.lays "java/lang/ArrayIndexOutOfBoundsException" "java/lang/Throwable" "cause" "Ljava/lang/Throwable;") ∈ lw_all := lw_g (lw_at lw_m8 43 rfl) rfl
theorem q1839 : (Jvm.Cond.lays "java/lang/ArrayIndexOutOfBoundsException" "java/lang/Throwable" "stackTrace" "[Ljava/lang/StackTraceElement;") ∈ lw_all := lw_g (lw_at lw_m8 44 rfl) rfl
theorem q1840 : (Jvm.Cond.lays "java/lang/ArrayIndexOutOfBoundsException" "java/lang/Throwable" "depth" "I") ∈ lw_all := lw_g (lw_at lw_m8 45 rfl) rfl
theorem q1841 : (Jvm.Cond.lays "java/lang/ArrayIndexOutOfBoundsException" "java/lang/Throwable" "suppressedExceptions" "Ljava/util/List;") ∈ lw_all := lw_g (lw_at lw_m8 46 rfl) rfl
theorem q1842 : (Jvm.Cond.superclass "java/lang/ArrayIndexOutOfBoundsException" "java/lang/IndexOutOfBoundsException") ∈ lw_all := lw_g (lw_at lw_m8 47 rfl) rfl
theorem q1843 : (Jvm.Cond.castable "java/lang/ArrayIndexOutOfBoundsException" "java/lang/ArrayIndexOutOfBoundsException") ∈ lw_tbl := lw_at lw_m8 48 rfl
theorem q1846 : (Jvm.Cond.selects "java/lang/ArrayIndexOutOfBoundsException" ({ cls := "java/lang/Throwable", name := "fillInStackTrace", desc := "(I)Ljava/lang/Throwable;" } : Jvm.MethodName) ({ cls := "java/lang/Throwable", name := "fillInStackTrace", desc := "(I)Ljava/lang/Throwable;" } : Jvm.MethodName)) ∈ lw_all := lw_g (lw_at lw_m8 51 rfl) rfl
theorem q2849 : (Jvm.Cond.castable "java/lang/ArrayIndexOutOfBoundsException" "java/lang/IndexOutOfBoundsException") ∈ lw_tbl := lw_at lw_m12 94 rfl
theorem q2878 : (Jvm.Cond.castable "java/lang/ArrayIndexOutOfBoundsException" "java/lang/Object") ∈ lw_tbl := lw_at lw_m12 123 rfl
theorem in_J36 : ∀ w ∈ wsJ360, w ∈ lw_all := lw_in wsJ360 [1836, 1837, 1838, 1839, 1840, 1841] (by decide +kernel) (by decide +kernel)
/-! java/lang/Object -/
set_option maxRecDepth 100000
def RJ37 : String := "java/lang/Object"
abbrev cJ37_init : ByteArray := object_method_1_code
def yJ37_init : MethodName := ⟨RJ37, "<init>", "()V"⟩
theorem dJ37_init_0 : decode cJ37_init 0 = .ok (.return_, 1) := by decide +kernel
abbrev cJ37_equals : ByteArray := object_method_4_code
def yJ37_equals : MethodName := ⟨RJ37, "equals", "(Ljava/lang/Object;)Z"⟩
def dkwJ37_equals_0 : List UInt8 := [42, 43, 166, 0, 7, 4, 167, 0, 4, 3, 172]
abbrev dktJ37_equals_0 : List UInt8 := dkwJ37_equals_0 ++ []
theorem dksJ37_equals_0 : cJ37_equals.data.toList.drop 0 = dktJ37_equals_0 := by decide +kernel
theorem dJ37_equals_0 : decode cJ37_equals 0 = .ok (.aload_n 0, 1) := dk_42 (dk_at dksJ37_equals_0 0 rfl rfl)
theorem dJ37_equals_1 : decode cJ37_equals 1 = .ok (.aload_n 1, 1) := dk_43 (dk_at dksJ37_equals_0 1 rfl rfl)
theorem dJ37_equals_2 : decode cJ37_equals 2 = .ok (.if_acmp .ne 7, 3) := dk_166 0 7 (dk_at dksJ37_equals_0 2 rfl rfl)
theorem dJ37_equals_5 : decode cJ37_equals 5 = .ok (.iconst 1, 1) := dk_4 (dk_at dksJ37_equals_0 5 rfl rfl)
theorem dJ37_equals_6 : decode cJ37_equals 6 = .ok (.goto 4, 3) := dk_167 0 4 (dk_at dksJ37_equals_0 6 rfl rfl)
theorem dJ37_equals_9 : decode cJ37_equals 9 = .ok (.iconst 0, 1) := dk_3 (dk_at dksJ37_equals_0 9 rfl rfl)
theorem dJ37_equals_10 : decode cJ37_equals 10 = .ok (.ireturn, 1) := dk_172 (dk_at dksJ37_equals_0 10 rfl rfl)
theorem q174 : (Jvm.Cond.instanceMethod ({ cls := "java/lang/Object", name := "<init>", desc := "()V" } : Jvm.MethodName)) ∈ lw_all := lw_g (lw_at lw_m1 59 rfl) rfl
theorem q175 : (Jvm.Cond.code ({ cls := "java/lang/Object", name := "<init>", desc := "()V" } : Jvm.MethodName) object_method_1_code (1 : Nat) (Option.none : Option Jvm.ClassFile.FieldType)) ∈ lw_all := lw_g (lw_at lw_m1 60 rfl) rfl
theorem q662 : (Jvm.Cond.instanceMethod ({ cls := "java/lang/Object", name := "getClass", desc := "()Ljava/lang/Class;" } : Jvm.MethodName)) ∈ lw_all := lw_g (lw_at lw_m3 67 rfl) rfl
theorem q663 : (Jvm.Cond.sameMethod "java/lang/Object" "java/lang/Object" "getClass" "()Ljava/lang/Class;") ∈ lw_all := lw_g (lw_at lw_m3 68 rfl) rfl
theorem q693 : (Jvm.Cond.native ({ cls := "java/lang/Object", name := "getClass", desc := "()Ljava/lang/Class;" } : Jvm.MethodName)) ∈ lw_all := lw_g (lw_at lw_m3 98 rfl) rfl
theorem q835 : (Jvm.Cond.native ({ cls := "java/lang/Object", name := "clone", desc := "()Ljava/lang/Object;" } : Jvm.MethodName)) ∈ lw_all := lw_g (lw_at lw_m4 0 rfl) rfl
theorem q836 : (Jvm.Cond.instanceMethod ({ cls := "java/lang/Object", name := "clone", desc := "()Ljava/lang/Object;" } : Jvm.MethodName)) ∈ lw_all := lw_g (lw_at lw_m4 1 rfl) rfl
theorem q1179 : (Jvm.Cond.declares ({ cls := "java/lang/Object", name := "equals", desc := "(Ljava/lang/Object;)Z" } : Jvm.MethodName)) ∈ lw_tbl := lw_at lw_m5 104 rfl
theorem q1181 : (Jvm.Cond.instanceMethod ({ cls := "java/lang/Object", name := "equals", desc := "(Ljava/lang/Object;)Z" } : Jvm.MethodName)) ∈ lw_all := lw_g (lw_at lw_m5 106 rfl) rfl
theorem q1182 : (Jvm.Cond.sameMethod "java/lang/Object" "java/lang/Object" "equals" "(Ljava/lang/Object;)Z") ∈ lw_all := lw_g (lw_at lw_m5 107 rfl) rfl
theorem q1209 : (Jvm.Cond.code ({ cls := "java/lang/Object", name := "equals", desc := "(Ljava/lang/Object;)Z" } : Jvm.MethodName) object_method_4_code (2 : Nat) (Option.some Jvm.ClassFile.FieldType.boolean)) ∈ lw_all := lw_g (lw_at lw_m5 134 rfl) rfl
theorem q2848 : (Jvm.Cond.initialized "java/lang/Object") ∈ lw_all := lw_g (lw_at lw_m12 93 rfl) rfl
theorem q2884 : (Jvm.Cond.declares ({ cls := "java/lang/Object", name := "getClass", desc := "()Ljava/lang/Class;" } : Jvm.MethodName)) ∈ lw_tbl := lw_at lw_m12 129 rfl
/-! java/lang/System$2 -/
set_option maxRecDepth 100000
def RJ38 : String := "java/lang/System$2"
abbrev cJ38_getUTF16Char : ByteArray := prog_37_method_45_code
def yJ38_getUTF16Char : MethodName := ⟨RJ38, "getUTF16Char", "([BI)C"⟩
def dkwJ38_getUTF16Char_0 : List UInt8 := [43, 28, 184, 0, 185, 172]
abbrev dktJ38_getUTF16Char_0 : List UInt8 := dkwJ38_getUTF16Char_0 ++ []
theorem dksJ38_getUTF16Char_0 : cJ38_getUTF16Char.data.toList.drop 0 = dktJ38_getUTF16Char_0 := by decide +kernel
theorem dJ38_getUTF16Char_0 : decode cJ38_getUTF16Char 0 = .ok (.aload_n 1, 1) := dk_43 (dk_at dksJ38_getUTF16Char_0 0 rfl rfl)
theorem dJ38_getUTF16Char_1 : decode cJ38_getUTF16Char 1 = .ok (.iload_n 2, 1) := dk_28 (dk_at dksJ38_getUTF16Char_0 1 rfl rfl)
theorem dJ38_getUTF16Char_2 : decode cJ38_getUTF16Char 2 = .ok (.invokestatic 185, 3) := dk_184 0 185 (dk_at dksJ38_getUTF16Char_0 2 rfl rfl)
theorem dJ38_getUTF16Char_5 : decode cJ38_getUTF16Char 5 = .ok (.ireturn, 1) := dk_172 (dk_at dksJ38_getUTF16Char_0 5 rfl rfl)
theorem q682 : (Jvm.Cond.selects "java/lang/System$2" ({ cls := "java/lang/Object", name := "getClass", desc := "()Ljava/lang/Class;" } : Jvm.MethodName) ({ cls := "java/lang/Object", name := "getClass", desc := "()Ljava/lang/Class;" } : Jvm.MethodName)) ∈ lw_all := lw_g (lw_at lw_m3 87 rfl) rfl
theorem q1096 : (Jvm.Cond.castable "java/lang/System$2" "jdk/internal/access/JavaLangAccess") ∈ lw_tbl := lw_at lw_m5 21 rfl
theorem q1097 : (Jvm.Cond.selects "java/lang/System$2" ({ cls := "jdk/internal/access/JavaLangAccess", name := "getUTF16Char", desc := "([BI)C" } : Jvm.MethodName) ({ cls := "java/lang/System$2", name := "getUTF16Char", desc := "([BI)C" } : Jvm.MethodName)) ∈ lw_all := lw_g (lw_at lw_m5 22 rfl) rfl
theorem q1098 : (Jvm.Cond.unhidden "java/lang/System$2" "getUTF16Char" "([BI)C") ∈ lw_tbl := lw_at lw_m5 23 rfl
theorem q1099 : (Jvm.Cond.instanceMethod ({ cls := "java/lang/System$2", name := "getUTF16Char", desc := "([BI)C" } : Jvm.MethodName)) ∈ lw_all := lw_g (lw_at lw_m5 24 rfl) rfl
theorem q1100 : (Jvm.Cond.publicMethod ({ cls := "java/lang/System$2", name := "getUTF16Char", desc := "([BI)C" } : Jvm.MethodName)) ∈ lw_tbl := lw_at lw_m5 25 rfl
theorem q1101 : (Jvm.Cond.code ({ cls := "java/lang/System$2", name := "getUTF16Char", desc := "([BI)C" } : Jvm.MethodName) prog_37_method_45_code (3 : Nat) (Option.some Jvm.ClassFile.FieldType.char)) ∈ lw_all := lw_g (lw_at lw_m5 26 rfl) rfl
theorem q1102 : (Jvm.Cond.methodLink "java/lang/System$2" (185 : Nat) ({ cls := "java/lang/StringUTF16", name := "getChar", desc := "([BI)C" } : Jvm.MethodName)) ∈ lw_all := lw_g (lw_at lw_m5 27 rfl) rfl
theorem q1208 : (Jvm.Cond.selects "java/lang/System$2" ({ cls := "java/lang/Object", name := "equals", desc := "(Ljava/lang/Object;)Z" } : Jvm.MethodName) ({ cls := "java/lang/Object", name := "equals", desc := "(Ljava/lang/Object;)Z" } : Jvm.MethodName)) ∈ lw_all := lw_g (lw_at lw_m5 133 rfl) rfl
theorem q2866 : (Jvm.Cond.castable "java/lang/System$2" "java/lang/Object") ∈ lw_tbl := lw_at lw_m12 111 rfl
/-! java/util/ArrayDeque -/
set_option maxRecDepth 100000
def RJ4 : String := "java/util/ArrayDeque"
def TJ4 : u_T := fun k => match k with
  | 0 => ("java/util/ArrayDeque", "elements", "[Ljava/lang/Object;", false)
  | 1 => ("java/util/ArrayDeque", "head", "I", false)
  | _ => ("java/util/ArrayDeque", "tail", "I", false)
def tyJ4 : Nat → FieldType := fun k => match k with
  | 0 => .array (.object "java/lang/Object")
  | 1 => .int
  | _ => .int
abbrev wsJ40 : List Cond := u_ws RJ4 TJ4 3
theorem nmJ4 : ∀ a, a < 3 → ∀ b, b < 3 → a ≠ b → (TJ4 a).2.1 ≠ (TJ4 b).2.1 := by decide +kernel
theorem tyJ4_ok : ∀ k, k < 3 → parseFieldDescriptor (TJ4 k).2.2.1 = some (tyJ4 k) := by decide +kernel
abbrev cJ4_init : ByteArray := prog_46_method_3_code
def yJ4_init : MethodName := ⟨RJ4, "<init>", "()V"⟩
def dkwJ4_init_0 : List UInt8 := [42, 183, 0, 42, 42, 16, 17, 189, 0, 47, 181, 0, 3, 177]
abbrev dktJ4_init_0 : List UInt8 := dkwJ4_init_0 ++ []
theorem dksJ4_init_0 : cJ4_init.data.toList.drop 0 = dktJ4_init_0 := by decide +kernel
theorem dJ4_init_0 : decode cJ4_init 0 = .ok (.aload_n 0, 1) := dk_42 (dk_at dksJ4_init_0 0 rfl rfl)
theorem dJ4_init_1 : decode cJ4_init 1 = .ok (.invokespecial 42, 3) := dk_183 0 42 (dk_at dksJ4_init_0 1 rfl rfl)
theorem dJ4_init_4 : decode cJ4_init 4 = .ok (.aload_n 0, 1) := dk_42 (dk_at dksJ4_init_0 4 rfl rfl)
theorem dJ4_init_5 : decode cJ4_init 5 = .ok (.bipush 17, 2) := dk_16 17 (dk_at dksJ4_init_0 5 rfl rfl)
theorem dJ4_init_7 : decode cJ4_init 7 = .ok (.anewarray 47, 3) := dk_189 0 47 (dk_at dksJ4_init_0 7 rfl rfl)
theorem dJ4_init_10 : decode cJ4_init 10 = .ok (.putfield 3, 3) := dk_181 0 3 (dk_at dksJ4_init_0 10 rfl rfl)
theorem dJ4_init_13 : decode cJ4_init 13 = .ok (.return_, 1) := dk_177 (dk_at dksJ4_init_0 13 rfl rfl)
abbrev cJ4_isEmpty : ByteArray := prog_46_method_38_code
def yJ4_isEmpty : MethodName := ⟨RJ4, "isEmpty", "()Z"⟩
def dkwJ4_isEmpty_0 : List UInt8 := [42, 180, 0, 24, 42, 180, 0, 20, 160, 0, 7, 4, 167, 0, 4, 3, 172]
abbrev dktJ4_isEmpty_0 : List UInt8 := dkwJ4_isEmpty_0 ++ []
theorem dksJ4_isEmpty_0 : cJ4_isEmpty.data.toList.drop 0 = dktJ4_isEmpty_0 := by decide +kernel
theorem dJ4_isEmpty_0 : decode cJ4_isEmpty 0 = .ok (.aload_n 0, 1) := dk_42 (dk_at dksJ4_isEmpty_0 0 rfl rfl)
theorem dJ4_isEmpty_1 : decode cJ4_isEmpty 1 = .ok (.getfield 24, 3) := dk_180 0 24 (dk_at dksJ4_isEmpty_0 1 rfl rfl)
theorem dJ4_isEmpty_4 : decode cJ4_isEmpty 4 = .ok (.aload_n 0, 1) := dk_42 (dk_at dksJ4_isEmpty_0 4 rfl rfl)
theorem dJ4_isEmpty_5 : decode cJ4_isEmpty 5 = .ok (.getfield 20, 3) := dk_180 0 20 (dk_at dksJ4_isEmpty_0 5 rfl rfl)
theorem dJ4_isEmpty_8 : decode cJ4_isEmpty 8 = .ok (.if_icmp .ne 7, 3) := dk_160 0 7 (dk_at dksJ4_isEmpty_0 8 rfl rfl)
theorem dJ4_isEmpty_11 : decode cJ4_isEmpty 11 = .ok (.iconst 1, 1) := dk_4 (dk_at dksJ4_isEmpty_0 11 rfl rfl)
theorem dJ4_isEmpty_12 : decode cJ4_isEmpty 12 = .ok (.goto 4, 3) := dk_167 0 4 (dk_at dksJ4_isEmpty_0 12 rfl rfl)
theorem dJ4_isEmpty_15 : decode cJ4_isEmpty 15 = .ok (.iconst 0, 1) := dk_3 (dk_at dksJ4_isEmpty_0 15 rfl rfl)
theorem dJ4_isEmpty_16 : decode cJ4_isEmpty 16 = .ok (.ireturn, 1) := dk_172 (dk_at dksJ4_isEmpty_0 16 rfl rfl)
abbrev cJ4_removeLast : ByteArray := prog_46_method_19_code
def yJ4_removeLast : MethodName := ⟨RJ4, "removeLast", "()Ljava/lang/Object;"⟩
def dkwJ4_removeLast_0 : List UInt8 := [42, 182, 0, 100, 76, 43, 199, 0, 11, 187, 0, 97, 89, 183, 0, 99, 191, 43, 176]
abbrev dktJ4_removeLast_0 : List UInt8 := dkwJ4_removeLast_0 ++ []
theorem dksJ4_removeLast_0 : cJ4_removeLast.data.toList.drop 0 = dktJ4_removeLast_0 := by decide +kernel
theorem dJ4_removeLast_0 : decode cJ4_removeLast 0 = .ok (.aload_n 0, 1) := dk_42 (dk_at dksJ4_removeLast_0 0 rfl rfl)
theorem dJ4_removeLast_1 : decode cJ4_removeLast 1 = .ok (.invokevirtual 100, 3) := dk_182 0 100 (dk_at dksJ4_removeLast_0 1 rfl rfl)
theorem dJ4_removeLast_4 : decode cJ4_removeLast 4 = .ok (.astore_n 1, 1) := dk_76 (dk_at dksJ4_removeLast_0 4 rfl rfl)
theorem dJ4_removeLast_5 : decode cJ4_removeLast 5 = .ok (.aload_n 1, 1) := dk_43 (dk_at dksJ4_removeLast_0 5 rfl rfl)
theorem dJ4_removeLast_6 : decode cJ4_removeLast 6 = .ok (.ifnonnull 11, 3) := dk_199 0 11 (dk_at dksJ4_removeLast_0 6 rfl rfl)
theorem dJ4_removeLast_9 : decode cJ4_removeLast 9 = .ok (.new 97, 3) := dk_187 0 97 (dk_at dksJ4_removeLast_0 9 rfl rfl)
theorem dJ4_removeLast_12 : decode cJ4_removeLast 12 = .ok (.dup, 1) := dk_89 (dk_at dksJ4_removeLast_0 12 rfl rfl)
theorem dJ4_removeLast_13 : decode cJ4_removeLast 13 = .ok (.invokespecial 99, 3) := dk_183 0 99 (dk_at dksJ4_removeLast_0 13 rfl rfl)
theorem dJ4_removeLast_16 : decode cJ4_removeLast 16 = .ok (.athrow, 1) := dk_191 (dk_at dksJ4_removeLast_0 16 rfl rfl)
theorem dJ4_removeLast_17 : decode cJ4_removeLast 17 = .ok (.aload_n 1, 1) := dk_43 (dk_at dksJ4_removeLast_0 17 rfl rfl)
theorem dJ4_removeLast_18 : decode cJ4_removeLast 18 = .ok (.areturn, 1) := dk_176 (dk_at dksJ4_removeLast_0 18 rfl rfl)
abbrev cJ4_pollLast : ByteArray := prog_46_method_21_code
def yJ4_pollLast : MethodName := ⟨RJ4, "pollLast", "()Ljava/lang/Object;"⟩
def dkwJ4_pollLast_1 : List UInt8 := [198, 0, 12, 43, 42, 28, 90, 181, 0, 20, 1, 83, 45, 176]
abbrev dktJ4_pollLast_1 : List UInt8 := dkwJ4_pollLast_1 ++ []
def dkwJ4_pollLast_0 : List UInt8 := [42, 180, 0, 3, 89, 76, 42, 180, 0, 20, 43, 190, 184, 0, 68, 89, 61, 184, 0, 103, 78, 45]
abbrev dktJ4_pollLast_0 : List UInt8 := dkwJ4_pollLast_0 ++ dktJ4_pollLast_1
theorem dksJ4_pollLast_0 : cJ4_pollLast.data.toList.drop 0 = dktJ4_pollLast_0 := by decide +kernel
theorem dksJ4_pollLast_1 : cJ4_pollLast.data.toList.drop 22 = dktJ4_pollLast_1 := dk_seg dksJ4_pollLast_0 22 rfl rfl
theorem dJ4_pollLast_0 : decode cJ4_pollLast 0 = .ok (.aload_n 0, 1) := dk_42 (dk_at dksJ4_pollLast_0 0 rfl rfl)
theorem dJ4_pollLast_1 : decode cJ4_pollLast 1 = .ok (.getfield 3, 3) := dk_180 0 3 (dk_at dksJ4_pollLast_0 1 rfl rfl)
theorem dJ4_pollLast_4 : decode cJ4_pollLast 4 = .ok (.dup, 1) := dk_89 (dk_at dksJ4_pollLast_0 4 rfl rfl)
theorem dJ4_pollLast_5 : decode cJ4_pollLast 5 = .ok (.astore_n 1, 1) := dk_76 (dk_at dksJ4_pollLast_0 5 rfl rfl)
theorem dJ4_pollLast_6 : decode cJ4_pollLast 6 = .ok (.aload_n 0, 1) := dk_42 (dk_at dksJ4_pollLast_0 6 rfl rfl)
theorem dJ4_pollLast_7 : decode cJ4_pollLast 7 = .ok (.getfield 20, 3) := dk_180 0 20 (dk_at dksJ4_pollLast_0 7 rfl rfl)
theorem dJ4_pollLast_10 : decode cJ4_pollLast 10 = .ok (.aload_n 1, 1) := dk_43 (dk_at dksJ4_pollLast_0 10 rfl rfl)
theorem dJ4_pollLast_11 : decode cJ4_pollLast 11 = .ok (.arraylength, 1) := dk_190 (dk_at dksJ4_pollLast_0 11 rfl rfl)
theorem dJ4_pollLast_12 : decode cJ4_pollLast 12 = .ok (.invokestatic 68, 3) := dk_184 0 68 (dk_at dksJ4_pollLast_0 12 rfl rfl)
theorem dJ4_pollLast_15 : decode cJ4_pollLast 15 = .ok (.dup, 1) := dk_89 (dk_at dksJ4_pollLast_0 15 rfl rfl)
theorem dJ4_pollLast_16 : decode cJ4_pollLast 16 = .ok (.istore_n 2, 1) := dk_61 (dk_at dksJ4_pollLast_0 16 rfl rfl)
theorem dJ4_pollLast_17 : decode cJ4_pollLast 17 = .ok (.invokestatic 103, 3) := dk_184 0 103 (dk_at dksJ4_pollLast_0 17 rfl rfl)
theorem dJ4_pollLast_20 : decode cJ4_pollLast 20 = .ok (.astore_n 3, 1) := dk_78 (dk_at dksJ4_pollLast_0 20 rfl rfl)
theorem dJ4_pollLast_21 : decode cJ4_pollLast 21 = .ok (.aload_n 3, 1) := dk_45 (dk_at dksJ4_pollLast_0 21 rfl rfl)
theorem dJ4_pollLast_22 : decode cJ4_pollLast 22 = .ok (.ifnull 12, 3) := dk_198 0 12 (dk_at dksJ4_pollLast_1 0 rfl rfl)
theorem dJ4_pollLast_25 : decode cJ4_pollLast 25 = .ok (.aload_n 1, 1) := dk_43 (dk_at dksJ4_pollLast_1 3 rfl rfl)
theorem dJ4_pollLast_26 : decode cJ4_pollLast 26 = .ok (.aload_n 0, 1) := dk_42 (dk_at dksJ4_pollLast_1 4 rfl rfl)
theorem dJ4_pollLast_27 : decode cJ4_pollLast 27 = .ok (.iload_n 2, 1) := dk_28 (dk_at dksJ4_pollLast_1 5 rfl rfl)
theorem dJ4_pollLast_28 : decode cJ4_pollLast 28 = .ok (.dup_x1, 1) := dk_90 (dk_at dksJ4_pollLast_1 6 rfl rfl)
theorem dJ4_pollLast_29 : decode cJ4_pollLast 29 = .ok (.putfield 20, 3) := dk_181 0 20 (dk_at dksJ4_pollLast_1 7 rfl rfl)
theorem dJ4_pollLast_32 : decode cJ4_pollLast 32 = .ok (.aconst_null, 1) := dk_1 (dk_at dksJ4_pollLast_1 10 rfl rfl)
theorem dJ4_pollLast_33 : decode cJ4_pollLast 33 = .ok (.aastore, 1) := dk_83 (dk_at dksJ4_pollLast_1 11 rfl rfl)
theorem dJ4_pollLast_34 : decode cJ4_pollLast 34 = .ok (.aload_n 3, 1) := dk_45 (dk_at dksJ4_pollLast_1 12 rfl rfl)
theorem dJ4_pollLast_35 : decode cJ4_pollLast 35 = .ok (.areturn, 1) := dk_176 (dk_at dksJ4_pollLast_1 13 rfl rfl)
abbrev cJ4_dec : ByteArray := prog_46_method_7_code
def yJ4_dec : MethodName := ⟨RJ4, "dec", "(II)I"⟩
def dkwJ4_dec_0 : List UInt8 := [132, 0, 255, 26, 156, 0, 7, 27, 4, 100, 59, 26, 172]
abbrev dktJ4_dec_0 : List UInt8 := dkwJ4_dec_0 ++ []
theorem dksJ4_dec_0 : cJ4_dec.data.toList.drop 0 = dktJ4_dec_0 := by decide +kernel
theorem dJ4_dec_0 : decode cJ4_dec 0 = .ok (.iinc 0 (-1), 3) := dk_132 0 255 (dk_at dksJ4_dec_0 0 rfl rfl)
theorem dJ4_dec_3 : decode cJ4_dec 3 = .ok (.iload_n 0, 1) := dk_26 (dk_at dksJ4_dec_0 3 rfl rfl)
theorem dJ4_dec_4 : decode cJ4_dec 4 = .ok (.ifCond .ge 7, 3) := dk_156 0 7 (dk_at dksJ4_dec_0 4 rfl rfl)
theorem dJ4_dec_7 : decode cJ4_dec 7 = .ok (.iload_n 1, 1) := dk_27 (dk_at dksJ4_dec_0 7 rfl rfl)
theorem dJ4_dec_8 : decode cJ4_dec 8 = .ok (.iconst 1, 1) := dk_4 (dk_at dksJ4_dec_0 8 rfl rfl)
theorem dJ4_dec_9 : decode cJ4_dec 9 = .ok (.isub, 1) := dk_100 (dk_at dksJ4_dec_0 9 rfl rfl)
theorem dJ4_dec_10 : decode cJ4_dec 10 = .ok (.istore_n 0, 1) := dk_59 (dk_at dksJ4_dec_0 10 rfl rfl)
theorem dJ4_dec_11 : decode cJ4_dec 11 = .ok (.iload_n 0, 1) := dk_26 (dk_at dksJ4_dec_0 11 rfl rfl)
theorem dJ4_dec_12 : decode cJ4_dec 12 = .ok (.ireturn, 1) := dk_172 (dk_at dksJ4_dec_0 12 rfl rfl)
abbrev cJ4_elementAt : ByteArray := prog_46_method_10_code
def yJ4_elementAt : MethodName := ⟨RJ4, "elementAt", "([Ljava/lang/Object;I)Ljava/lang/Object;"⟩
def dkwJ4_elementAt_0 : List UInt8 := [42, 27, 50, 176]
abbrev dktJ4_elementAt_0 : List UInt8 := dkwJ4_elementAt_0 ++ []
theorem dksJ4_elementAt_0 : cJ4_elementAt.data.toList.drop 0 = dktJ4_elementAt_0 := by decide +kernel
theorem dJ4_elementAt_0 : decode cJ4_elementAt 0 = .ok (.aload_n 0, 1) := dk_42 (dk_at dksJ4_elementAt_0 0 rfl rfl)
theorem dJ4_elementAt_1 : decode cJ4_elementAt 1 = .ok (.iload_n 1, 1) := dk_27 (dk_at dksJ4_elementAt_0 1 rfl rfl)
theorem dJ4_elementAt_2 : decode cJ4_elementAt 2 = .ok (.aaload, 1) := dk_50 (dk_at dksJ4_elementAt_0 2 rfl rfl)
theorem dJ4_elementAt_3 : decode cJ4_elementAt 3 = .ok (.areturn, 1) := dk_176 (dk_at dksJ4_elementAt_0 3 rfl rfl)
abbrev cJ4_size : ByteArray := prog_46_method_37_code
def yJ4_size : MethodName := ⟨RJ4, "size", "()I"⟩
def dkwJ4_size_0 : List UInt8 := [42, 180, 0, 20, 42, 180, 0, 24, 42, 180, 0, 3, 190, 184, 0, 127, 172]
abbrev dktJ4_size_0 : List UInt8 := dkwJ4_size_0 ++ []
theorem dksJ4_size_0 : cJ4_size.data.toList.drop 0 = dktJ4_size_0 := by decide +kernel
theorem dJ4_size_0 : decode cJ4_size 0 = .ok (.aload_n 0, 1) := dk_42 (dk_at dksJ4_size_0 0 rfl rfl)
theorem dJ4_size_1 : decode cJ4_size 1 = .ok (.getfield 20, 3) := dk_180 0 20 (dk_at dksJ4_size_0 1 rfl rfl)
theorem dJ4_size_4 : decode cJ4_size 4 = .ok (.aload_n 0, 1) := dk_42 (dk_at dksJ4_size_0 4 rfl rfl)
theorem dJ4_size_5 : decode cJ4_size 5 = .ok (.getfield 24, 3) := dk_180 0 24 (dk_at dksJ4_size_0 5 rfl rfl)
theorem dJ4_size_8 : decode cJ4_size 8 = .ok (.aload_n 0, 1) := dk_42 (dk_at dksJ4_size_0 8 rfl rfl)
theorem dJ4_size_9 : decode cJ4_size 9 = .ok (.getfield 3, 3) := dk_180 0 3 (dk_at dksJ4_size_0 9 rfl rfl)
theorem dJ4_size_12 : decode cJ4_size 12 = .ok (.arraylength, 1) := dk_190 (dk_at dksJ4_size_0 12 rfl rfl)
theorem dJ4_size_13 : decode cJ4_size 13 = .ok (.invokestatic 127, 3) := dk_184 0 127 (dk_at dksJ4_size_0 13 rfl rfl)
theorem dJ4_size_16 : decode cJ4_size 16 = .ok (.ireturn, 1) := dk_172 (dk_at dksJ4_size_0 16 rfl rfl)
abbrev cJ4_sub : ByteArray := prog_46_method_9_code
def yJ4_sub : MethodName := ⟨RJ4, "sub", "(III)I"⟩
def dkwJ4_sub_0 : List UInt8 := [26, 27, 100, 89, 59, 156, 0, 7, 26, 28, 96, 59, 26, 172]
abbrev dktJ4_sub_0 : List UInt8 := dkwJ4_sub_0 ++ []
theorem dksJ4_sub_0 : cJ4_sub.data.toList.drop 0 = dktJ4_sub_0 := by decide +kernel
theorem dJ4_sub_0 : decode cJ4_sub 0 = .ok (.iload_n 0, 1) := dk_26 (dk_at dksJ4_sub_0 0 rfl rfl)
theorem dJ4_sub_1 : decode cJ4_sub 1 = .ok (.iload_n 1, 1) := dk_27 (dk_at dksJ4_sub_0 1 rfl rfl)
theorem dJ4_sub_2 : decode cJ4_sub 2 = .ok (.isub, 1) := dk_100 (dk_at dksJ4_sub_0 2 rfl rfl)
theorem dJ4_sub_3 : decode cJ4_sub 3 = .ok (.dup, 1) := dk_89 (dk_at dksJ4_sub_0 3 rfl rfl)
theorem dJ4_sub_4 : decode cJ4_sub 4 = .ok (.istore_n 0, 1) := dk_59 (dk_at dksJ4_sub_0 4 rfl rfl)
theorem dJ4_sub_5 : decode cJ4_sub 5 = .ok (.ifCond .ge 7, 3) := dk_156 0 7 (dk_at dksJ4_sub_0 5 rfl rfl)
theorem dJ4_sub_8 : decode cJ4_sub 8 = .ok (.iload_n 0, 1) := dk_26 (dk_at dksJ4_sub_0 8 rfl rfl)
theorem dJ4_sub_9 : decode cJ4_sub 9 = .ok (.iload_n 2, 1) := dk_28 (dk_at dksJ4_sub_0 9 rfl rfl)
theorem dJ4_sub_10 : decode cJ4_sub 10 = .ok (.iadd, 1) := dk_96 (dk_at dksJ4_sub_0 10 rfl rfl)
theorem dJ4_sub_11 : decode cJ4_sub 11 = .ok (.istore_n 0, 1) := dk_59 (dk_at dksJ4_sub_0 11 rfl rfl)
theorem dJ4_sub_12 : decode cJ4_sub 12 = .ok (.iload_n 0, 1) := dk_26 (dk_at dksJ4_sub_0 12 rfl rfl)
theorem dJ4_sub_13 : decode cJ4_sub 13 = .ok (.ireturn, 1) := dk_172 (dk_at dksJ4_sub_0 13 rfl rfl)
abbrev cJ4_clear : ByteArray := prog_46_method_53_code
def yJ4_clear : MethodName := ⟨RJ4, "clear", "()V"⟩
def dkwJ4_clear_1 : List UInt8 := [181, 0, 24, 177]
abbrev dktJ4_clear_1 : List UInt8 := dkwJ4_clear_1 ++ []
def dkwJ4_clear_0 : List UInt8 := [42, 180, 0, 3, 42, 180, 0, 24, 42, 180, 0, 20, 184, 0, 181, 42, 42, 3, 90, 181, 0, 20]
abbrev dktJ4_clear_0 : List UInt8 := dkwJ4_clear_0 ++ dktJ4_clear_1
theorem dksJ4_clear_0 : cJ4_clear.data.toList.drop 0 = dktJ4_clear_0 := by decide +kernel
theorem dksJ4_clear_1 : cJ4_clear.data.toList.drop 22 = dktJ4_clear_1 := dk_seg dksJ4_clear_0 22 rfl rfl
theorem dJ4_clear_0 : decode cJ4_clear 0 = .ok (.aload_n 0, 1) := dk_42 (dk_at dksJ4_clear_0 0 rfl rfl)
theorem dJ4_clear_1 : decode cJ4_clear 1 = .ok (.getfield 3, 3) := dk_180 0 3 (dk_at dksJ4_clear_0 1 rfl rfl)
theorem dJ4_clear_4 : decode cJ4_clear 4 = .ok (.aload_n 0, 1) := dk_42 (dk_at dksJ4_clear_0 4 rfl rfl)
theorem dJ4_clear_5 : decode cJ4_clear 5 = .ok (.getfield 24, 3) := dk_180 0 24 (dk_at dksJ4_clear_0 5 rfl rfl)
theorem dJ4_clear_8 : decode cJ4_clear 8 = .ok (.aload_n 0, 1) := dk_42 (dk_at dksJ4_clear_0 8 rfl rfl)
theorem dJ4_clear_9 : decode cJ4_clear 9 = .ok (.getfield 20, 3) := dk_180 0 20 (dk_at dksJ4_clear_0 9 rfl rfl)
theorem dJ4_clear_12 : decode cJ4_clear 12 = .ok (.invokestatic 181, 3) := dk_184 0 181 (dk_at dksJ4_clear_0 12 rfl rfl)
theorem dJ4_clear_15 : decode cJ4_clear 15 = .ok (.aload_n 0, 1) := dk_42 (dk_at dksJ4_clear_0 15 rfl rfl)
theorem dJ4_clear_16 : decode cJ4_clear 16 = .ok (.aload_n 0, 1) := dk_42 (dk_at dksJ4_clear_0 16 rfl rfl)
theorem dJ4_clear_17 : decode cJ4_clear 17 = .ok (.iconst 0, 1) := dk_3 (dk_at dksJ4_clear_0 17 rfl rfl)
theorem dJ4_clear_18 : decode cJ4_clear 18 = .ok (.dup_x1, 1) := dk_90 (dk_at dksJ4_clear_0 18 rfl rfl)
theorem dJ4_clear_19 : decode cJ4_clear 19 = .ok (.putfield 20, 3) := dk_181 0 20 (dk_at dksJ4_clear_0 19 rfl rfl)
theorem dJ4_clear_22 : decode cJ4_clear 22 = .ok (.putfield 24, 3) := dk_181 0 24 (dk_at dksJ4_clear_1 0 rfl rfl)
theorem dJ4_clear_25 : decode cJ4_clear 25 = .ok (.return_, 1) := dk_177 (dk_at dksJ4_clear_1 3 rfl rfl)
abbrev cJ4_circularClear : ByteArray := prog_46_method_54_code
def yJ4_circularClear : MethodName := ⟨RJ4, "circularClear", "([Ljava/lang/Object;II)V"⟩
def dkwJ4_circularClear_1 : List UInt8 := [167, 255, 244, 29, 28, 160, 0, 6, 167, 0, 10, 3, 60, 28, 62, 167, 255, 229, 177]
abbrev dktJ4_circularClear_1 : List UInt8 := dkwJ4_circularClear_1 ++ []
def dkwJ4_circularClear_0 : List UInt8 := [27, 28, 163, 0, 7, 28, 167, 0, 5, 42, 190, 62, 27, 29, 162, 0, 13, 42, 27, 1, 83, 132, 1, 1]
abbrev dktJ4_circularClear_0 : List UInt8 := dkwJ4_circularClear_0 ++ dktJ4_circularClear_1
theorem dksJ4_circularClear_0 : cJ4_circularClear.data.toList.drop 0 = dktJ4_circularClear_0 := by decide +kernel
theorem dksJ4_circularClear_1 : cJ4_circularClear.data.toList.drop 24 = dktJ4_circularClear_1 := dk_seg dksJ4_circularClear_0 24 rfl rfl
theorem dJ4_circularClear_0 : decode cJ4_circularClear 0 = .ok (.iload_n 1, 1) := dk_27 (dk_at dksJ4_circularClear_0 0 rfl rfl)
theorem dJ4_circularClear_1 : decode cJ4_circularClear 1 = .ok (.iload_n 2, 1) := dk_28 (dk_at dksJ4_circularClear_0 1 rfl rfl)
theorem dJ4_circularClear_2 : decode cJ4_circularClear 2 = .ok (.if_icmp .gt 7, 3) := dk_163 0 7 (dk_at dksJ4_circularClear_0 2 rfl rfl)
theorem dJ4_circularClear_5 : decode cJ4_circularClear 5 = .ok (.iload_n 2, 1) := dk_28 (dk_at dksJ4_circularClear_0 5 rfl rfl)
theorem dJ4_circularClear_6 : decode cJ4_circularClear 6 = .ok (.goto 5, 3) := dk_167 0 5 (dk_at dksJ4_circularClear_0 6 rfl rfl)
theorem dJ4_circularClear_9 : decode cJ4_circularClear 9 = .ok (.aload_n 0, 1) := dk_42 (dk_at dksJ4_circularClear_0 9 rfl rfl)
theorem dJ4_circularClear_10 : decode cJ4_circularClear 10 = .ok (.arraylength, 1) := dk_190 (dk_at dksJ4_circularClear_0 10 rfl rfl)
theorem dJ4_circularClear_11 : decode cJ4_circularClear 11 = .ok (.istore_n 3, 1) := dk_62 (dk_at dksJ4_circularClear_0 11 rfl rfl)
theorem dJ4_circularClear_12 : decode cJ4_circularClear 12 = .ok (.iload_n 1, 1) := dk_27 (dk_at dksJ4_circularClear_0 12 rfl rfl)
theorem dJ4_circularClear_13 : decode cJ4_circularClear 13 = .ok (.iload_n 3, 1) := dk_29 (dk_at dksJ4_circularClear_0 13 rfl rfl)
theorem dJ4_circularClear_14 : decode cJ4_circularClear 14 = .ok (.if_icmp .ge 13, 3) := dk_162 0 13 (dk_at dksJ4_circularClear_0 14 rfl rfl)
theorem dJ4_circularClear_17 : decode cJ4_circularClear 17 = .ok (.aload_n 0, 1) := dk_42 (dk_at dksJ4_circularClear_0 17 rfl rfl)
theorem dJ4_circularClear_18 : decode cJ4_circularClear 18 = .ok (.iload_n 1, 1) := dk_27 (dk_at dksJ4_circularClear_0 18 rfl rfl)
theorem dJ4_circularClear_19 : decode cJ4_circularClear 19 = .ok (.aconst_null, 1) := dk_1 (dk_at dksJ4_circularClear_0 19 rfl rfl)
theorem dJ4_circularClear_20 : decode cJ4_circularClear 20 = .ok (.aastore, 1) := dk_83 (dk_at dksJ4_circularClear_0 20 rfl rfl)
theorem dJ4_circularClear_21 : decode cJ4_circularClear 21 = .ok (.iinc 1 1, 3) := dk_132 1 1 (dk_at dksJ4_circularClear_0 21 rfl rfl)
theorem dJ4_circularClear_24 : decode cJ4_circularClear 24 = .ok (.goto (-12), 3) := dk_167 255 244 (dk_at dksJ4_circularClear_1 0 rfl rfl)
theorem dJ4_circularClear_27 : decode cJ4_circularClear 27 = .ok (.iload_n 3, 1) := dk_29 (dk_at dksJ4_circularClear_1 3 rfl rfl)
theorem dJ4_circularClear_28 : decode cJ4_circularClear 28 = .ok (.iload_n 2, 1) := dk_28 (dk_at dksJ4_circularClear_1 4 rfl rfl)
theorem dJ4_circularClear_29 : decode cJ4_circularClear 29 = .ok (.if_icmp .ne 6, 3) := dk_160 0 6 (dk_at dksJ4_circularClear_1 5 rfl rfl)
theorem dJ4_circularClear_32 : decode cJ4_circularClear 32 = .ok (.goto 10, 3) := dk_167 0 10 (dk_at dksJ4_circularClear_1 8 rfl rfl)
theorem dJ4_circularClear_35 : decode cJ4_circularClear 35 = .ok (.iconst 0, 1) := dk_3 (dk_at dksJ4_circularClear_1 11 rfl rfl)
theorem dJ4_circularClear_36 : decode cJ4_circularClear 36 = .ok (.istore_n 1, 1) := dk_60 (dk_at dksJ4_circularClear_1 12 rfl rfl)
theorem dJ4_circularClear_37 : decode cJ4_circularClear 37 = .ok (.iload_n 2, 1) := dk_28 (dk_at dksJ4_circularClear_1 13 rfl rfl)
theorem dJ4_circularClear_38 : decode cJ4_circularClear 38 = .ok (.istore_n 3, 1) := dk_62 (dk_at dksJ4_circularClear_1 14 rfl rfl)
theorem dJ4_circularClear_39 : decode cJ4_circularClear 39 = .ok (.goto (-27), 3) := dk_167 255 229 (dk_at dksJ4_circularClear_1 15 rfl rfl)
theorem dJ4_circularClear_42 : decode cJ4_circularClear 42 = .ok (.return_, 1) := dk_177 (dk_at dksJ4_circularClear_1 18 rfl rfl)
abbrev cJ4_addLast : ByteArray := prog_46_method_13_code
def yJ4_addLast : MethodName := ⟨RJ4, "addLast", "(Ljava/lang/Object;)V"⟩
def dkwJ4_addLast_2 : List UInt8 := [182, 0, 71, 177]
abbrev dktJ4_addLast_2 : List UInt8 := dkwJ4_addLast_2 ++ []
def dkwJ4_addLast_1 : List UInt8 := [42, 180, 0, 24, 42, 42, 180, 0, 20, 44, 190, 184, 0, 74, 90, 181, 0, 20, 160, 0, 8, 42, 4]
abbrev dktJ4_addLast_1 : List UInt8 := dkwJ4_addLast_1 ++ dktJ4_addLast_2
def dkwJ4_addLast_0 : List UInt8 := [43, 199, 0, 11, 187, 0, 65, 89, 183, 0, 67, 191, 42, 180, 0, 3, 77, 44, 42, 180, 0, 20, 43, 83]
abbrev dktJ4_addLast_0 : List UInt8 := dkwJ4_addLast_0 ++ dktJ4_addLast_1
theorem dksJ4_addLast_0 : cJ4_addLast.data.toList.drop 0 = dktJ4_addLast_0 := by decide +kernel
theorem dksJ4_addLast_1 : cJ4_addLast.data.toList.drop 24 = dktJ4_addLast_1 := dk_seg dksJ4_addLast_0 24 rfl rfl
theorem dksJ4_addLast_2 : cJ4_addLast.data.toList.drop 47 = dktJ4_addLast_2 := dk_seg dksJ4_addLast_1 23 rfl rfl
theorem dJ4_addLast_0 : decode cJ4_addLast 0 = .ok (.aload_n 1, 1) := dk_43 (dk_at dksJ4_addLast_0 0 rfl rfl)
theorem dJ4_addLast_1 : decode cJ4_addLast 1 = .ok (.ifnonnull 11, 3) := dk_199 0 11 (dk_at dksJ4_addLast_0 1 rfl rfl)
theorem dJ4_addLast_4 : decode cJ4_addLast 4 = .ok (.new 65, 3) := dk_187 0 65 (dk_at dksJ4_addLast_0 4 rfl rfl)
theorem dJ4_addLast_7 : decode cJ4_addLast 7 = .ok (.dup, 1) := dk_89 (dk_at dksJ4_addLast_0 7 rfl rfl)
theorem dJ4_addLast_8 : decode cJ4_addLast 8 = .ok (.invokespecial 67, 3) := dk_183 0 67 (dk_at dksJ4_addLast_0 8 rfl rfl)
theorem dJ4_addLast_11 : decode cJ4_addLast 11 = .ok (.athrow, 1) := dk_191 (dk_at dksJ4_addLast_0 11 rfl rfl)
theorem dJ4_addLast_12 : decode cJ4_addLast 12 = .ok (.aload_n 0, 1) := dk_42 (dk_at dksJ4_addLast_0 12 rfl rfl)
theorem dJ4_addLast_13 : decode cJ4_addLast 13 = .ok (.getfield 3, 3) := dk_180 0 3 (dk_at dksJ4_addLast_0 13 rfl rfl)
theorem dJ4_addLast_16 : decode cJ4_addLast 16 = .ok (.astore_n 2, 1) := dk_77 (dk_at dksJ4_addLast_0 16 rfl rfl)
theorem dJ4_addLast_17 : decode cJ4_addLast 17 = .ok (.aload_n 2, 1) := dk_44 (dk_at dksJ4_addLast_0 17 rfl rfl)
theorem dJ4_addLast_18 : decode cJ4_addLast 18 = .ok (.aload_n 0, 1) := dk_42 (dk_at dksJ4_addLast_0 18 rfl rfl)
theorem dJ4_addLast_19 : decode cJ4_addLast 19 = .ok (.getfield 20, 3) := dk_180 0 20 (dk_at dksJ4_addLast_0 19 rfl rfl)
theorem dJ4_addLast_22 : decode cJ4_addLast 22 = .ok (.aload_n 1, 1) := dk_43 (dk_at dksJ4_addLast_0 22 rfl rfl)
theorem dJ4_addLast_23 : decode cJ4_addLast 23 = .ok (.aastore, 1) := dk_83 (dk_at dksJ4_addLast_0 23 rfl rfl)
theorem dJ4_addLast_24 : decode cJ4_addLast 24 = .ok (.aload_n 0, 1) := dk_42 (dk_at dksJ4_addLast_1 0 rfl rfl)
theorem dJ4_addLast_25 : decode cJ4_addLast 25 = .ok (.getfield 24, 3) := dk_180 0 24 (dk_at dksJ4_addLast_1 1 rfl rfl)
theorem dJ4_addLast_28 : decode cJ4_addLast 28 = .ok (.aload_n 0, 1) := dk_42 (dk_at dksJ4_addLast_1 4 rfl rfl)
theorem dJ4_addLast_29 : decode cJ4_addLast 29 = .ok (.aload_n 0, 1) := dk_42 (dk_at dksJ4_addLast_1 5 rfl rfl)
theorem dJ4_addLast_30 : decode cJ4_addLast 30 = .ok (.getfield 20, 3) := dk_180 0 20 (dk_at dksJ4_addLast_1 6 rfl rfl)
theorem dJ4_addLast_33 : decode cJ4_addLast 33 = .ok (.aload_n 2, 1) := dk_44 (dk_at dksJ4_addLast_1 9 rfl rfl)
theorem dJ4_addLast_34 : decode cJ4_addLast 34 = .ok (.arraylength, 1) := dk_190 (dk_at dksJ4_addLast_1 10 rfl rfl)
theorem dJ4_addLast_35 : decode cJ4_addLast 35 = .ok (.invokestatic 74, 3) := dk_184 0 74 (dk_at dksJ4_addLast_1 11 rfl rfl)
theorem dJ4_addLast_38 : decode cJ4_addLast 38 = .ok (.dup_x1, 1) := dk_90 (dk_at dksJ4_addLast_1 14 rfl rfl)
theorem dJ4_addLast_39 : decode cJ4_addLast 39 = .ok (.putfield 20, 3) := dk_181 0 20 (dk_at dksJ4_addLast_1 15 rfl rfl)
theorem dJ4_addLast_42 : decode cJ4_addLast 42 = .ok (.if_icmp .ne 8, 3) := dk_160 0 8 (dk_at dksJ4_addLast_1 18 rfl rfl)
theorem dJ4_addLast_45 : decode cJ4_addLast 45 = .ok (.aload_n 0, 1) := dk_42 (dk_at dksJ4_addLast_1 21 rfl rfl)
theorem dJ4_addLast_46 : decode cJ4_addLast 46 = .ok (.iconst 1, 1) := dk_4 (dk_at dksJ4_addLast_1 22 rfl rfl)
theorem dJ4_addLast_47 : decode cJ4_addLast 47 = .ok (.invokevirtual 71, 3) := dk_182 0 71 (dk_at dksJ4_addLast_2 0 rfl rfl)
theorem dJ4_addLast_50 : decode cJ4_addLast 50 = .ok (.return_, 1) := dk_177 (dk_at dksJ4_addLast_2 3 rfl rfl)
abbrev cJ4_inc : ByteArray := prog_46_method_6_code
def yJ4_inc : MethodName := ⟨RJ4, "inc", "(II)I"⟩
def dkwJ4_inc_0 : List UInt8 := [132, 0, 1, 26, 27, 161, 0, 5, 3, 59, 26, 172]
abbrev dktJ4_inc_0 : List UInt8 := dkwJ4_inc_0 ++ []
theorem dksJ4_inc_0 : cJ4_inc.data.toList.drop 0 = dktJ4_inc_0 := by decide +kernel
theorem dJ4_inc_0 : decode cJ4_inc 0 = .ok (.iinc 0 1, 3) := dk_132 0 1 (dk_at dksJ4_inc_0 0 rfl rfl)
theorem dJ4_inc_3 : decode cJ4_inc 3 = .ok (.iload_n 0, 1) := dk_26 (dk_at dksJ4_inc_0 3 rfl rfl)
theorem dJ4_inc_4 : decode cJ4_inc 4 = .ok (.iload_n 1, 1) := dk_27 (dk_at dksJ4_inc_0 4 rfl rfl)
theorem dJ4_inc_5 : decode cJ4_inc 5 = .ok (.if_icmp .lt 5, 3) := dk_161 0 5 (dk_at dksJ4_inc_0 5 rfl rfl)
theorem dJ4_inc_8 : decode cJ4_inc 8 = .ok (.iconst 0, 1) := dk_3 (dk_at dksJ4_inc_0 8 rfl rfl)
theorem dJ4_inc_9 : decode cJ4_inc 9 = .ok (.istore_n 0, 1) := dk_59 (dk_at dksJ4_inc_0 9 rfl rfl)
theorem dJ4_inc_10 : decode cJ4_inc 10 = .ok (.iload_n 0, 1) := dk_26 (dk_at dksJ4_inc_0 10 rfl rfl)
theorem dJ4_inc_11 : decode cJ4_inc 11 = .ok (.ireturn, 1) := dk_172 (dk_at dksJ4_inc_0 11 rfl rfl)
abbrev cJ4_grow : ByteArray := prog_46_method_1_code
def yJ4_grow : MethodName := ⟨RJ4, "grow", "(I)V"⟩
def dkwJ4_grow_7 : List UInt8 := [177]
abbrev dktJ4_grow_7 : List UInt8 := dkwJ4_grow_7 ++ []
def dkwJ4_grow_6 : List UInt8 := [181, 0, 24, 54, 8, 21, 7, 21, 8, 162, 0, 15, 25, 5, 21, 7, 1, 83, 132, 7, 1, 167, 255, 240]
abbrev dktJ4_grow_6 : List UInt8 := dkwJ4_grow_6 ++ dktJ4_grow_7
def dkwJ4_grow_5 : List UInt8 := [42, 180, 0, 24, 100, 184, 0, 27, 42, 180, 0, 24, 54, 7, 42, 89, 180, 0, 24, 21, 6, 96, 90]
abbrev dktJ4_grow_5 : List UInt8 := dkwJ4_grow_5 ++ dktJ4_grow_6
def dkwJ4_grow_4 : List UInt8 := [198, 0, 71, 29, 28, 100, 54, 6, 25, 5, 42, 180, 0, 24, 25, 5, 42, 180, 0, 24, 21, 6, 96, 28]
abbrev dktJ4_grow_4 : List UInt8 := dkwJ4_grow_4 ++ dktJ4_grow_5
def dkwJ4_grow_3 : List UInt8 := [180, 0, 24, 161, 0, 24, 42, 180, 0, 20, 42, 180, 0, 24, 160, 0, 81, 25, 5, 42, 180, 0, 24, 50]
abbrev dktJ4_grow_3 : List UInt8 := dkwJ4_grow_3 ++ dktJ4_grow_4
def dkwJ4_grow_2 : List UInt8 := [182, 0, 10, 62, 42, 42, 180, 0, 3, 29, 184, 0, 14, 90, 181, 0, 3, 58, 5, 42, 180, 0, 20, 42]
abbrev dktJ4_grow_2 : List UInt8 := dkwJ4_grow_2 ++ dktJ4_grow_3
def dkwJ4_grow_1 : List UInt8 := [21, 4, 27, 161, 0, 15, 28, 21, 4, 96, 89, 62, 18, 9, 100, 158, 0, 11, 42, 27, 21, 4]
abbrev dktJ4_grow_1 : List UInt8 := dkwJ4_grow_1 ++ dktJ4_grow_2
def dkwJ4_grow_0 : List UInt8 := [42, 180, 0, 3, 190, 61, 28, 16, 64, 162, 0, 9, 28, 5, 96, 167, 0, 6, 28, 4, 122, 54, 4]
abbrev dktJ4_grow_0 : List UInt8 := dkwJ4_grow_0 ++ dktJ4_grow_1
theorem dksJ4_grow_0 : cJ4_grow.data.toList.drop 0 = dktJ4_grow_0 := by decide +kernel
theorem dksJ4_grow_1 : cJ4_grow.data.toList.drop 23 = dktJ4_grow_1 := dk_seg dksJ4_grow_0 23 rfl rfl
theorem dksJ4_grow_2 : cJ4_grow.data.toList.drop 45 = dktJ4_grow_2 := dk_seg dksJ4_grow_1 22 rfl rfl
theorem dksJ4_grow_3 : cJ4_grow.data.toList.drop 69 = dktJ4_grow_3 := dk_seg dksJ4_grow_2 24 rfl rfl
theorem dksJ4_grow_4 : cJ4_grow.data.toList.drop 93 = dktJ4_grow_4 := dk_seg dksJ4_grow_3 24 rfl rfl
theorem dksJ4_grow_5 : cJ4_grow.data.toList.drop 117 = dktJ4_grow_5 := dk_seg dksJ4_grow_4 24 rfl rfl
theorem dksJ4_grow_6 : cJ4_grow.data.toList.drop 140 = dktJ4_grow_6 := dk_seg dksJ4_grow_5 23 rfl rfl
theorem dksJ4_grow_7 : cJ4_grow.data.toList.drop 164 = dktJ4_grow_7 := dk_seg dksJ4_grow_6 24 rfl rfl
theorem dJ4_grow_0 : decode cJ4_grow 0 = .ok (.aload_n 0, 1) := dk_42 (dk_at dksJ4_grow_0 0 rfl rfl)
theorem dJ4_grow_1 : decode cJ4_grow 1 = .ok (.getfield 3, 3) := dk_180 0 3 (dk_at dksJ4_grow_0 1 rfl rfl)
theorem dJ4_grow_4 : decode cJ4_grow 4 = .ok (.arraylength, 1) := dk_190 (dk_at dksJ4_grow_0 4 rfl rfl)
theorem dJ4_grow_5 : decode cJ4_grow 5 = .ok (.istore_n 2, 1) := dk_61 (dk_at dksJ4_grow_0 5 rfl rfl)
theorem dJ4_grow_6 : decode cJ4_grow 6 = .ok (.iload_n 2, 1) := dk_28 (dk_at dksJ4_grow_0 6 rfl rfl)
theorem dJ4_grow_7 : decode cJ4_grow 7 = .ok (.bipush 64, 2) := dk_16 64 (dk_at dksJ4_grow_0 7 rfl rfl)
theorem dJ4_grow_9 : decode cJ4_grow 9 = .ok (.if_icmp .ge 9, 3) := dk_162 0 9 (dk_at dksJ4_grow_0 9 rfl rfl)
theorem dJ4_grow_12 : decode cJ4_grow 12 = .ok (.iload_n 2, 1) := dk_28 (dk_at dksJ4_grow_0 12 rfl rfl)
theorem dJ4_grow_13 : decode cJ4_grow 13 = .ok (.iconst 2, 1) := dk_5 (dk_at dksJ4_grow_0 13 rfl rfl)
theorem dJ4_grow_14 : decode cJ4_grow 14 = .ok (.iadd, 1) := dk_96 (dk_at dksJ4_grow_0 14 rfl rfl)
theorem dJ4_grow_15 : decode cJ4_grow 15 = .ok (.goto 6, 3) := dk_167 0 6 (dk_at dksJ4_grow_0 15 rfl rfl)
theorem dJ4_grow_18 : decode cJ4_grow 18 = .ok (.iload_n 2, 1) := dk_28 (dk_at dksJ4_grow_0 18 rfl rfl)
theorem dJ4_grow_19 : decode cJ4_grow 19 = .ok (.iconst 1, 1) := dk_4 (dk_at dksJ4_grow_0 19 rfl rfl)
theorem dJ4_grow_20 : decode cJ4_grow 20 = .ok (.ishr, 1) := dk_122 (dk_at dksJ4_grow_0 20 rfl rfl)
theorem dJ4_grow_21 : decode cJ4_grow 21 = .ok (.istore 4, 2) := dk_54 4 (dk_at dksJ4_grow_0 21 rfl rfl)
theorem dJ4_grow_23 : decode cJ4_grow 23 = .ok (.iload 4, 2) := dk_21 4 (dk_at dksJ4_grow_1 0 rfl rfl)
theorem dJ4_grow_25 : decode cJ4_grow 25 = .ok (.iload_n 1, 1) := dk_27 (dk_at dksJ4_grow_1 2 rfl rfl)
theorem dJ4_grow_26 : decode cJ4_grow 26 = .ok (.if_icmp .lt 15, 3) := dk_161 0 15 (dk_at dksJ4_grow_1 3 rfl rfl)
theorem dJ4_grow_29 : decode cJ4_grow 29 = .ok (.iload_n 2, 1) := dk_28 (dk_at dksJ4_grow_1 6 rfl rfl)
theorem dJ4_grow_30 : decode cJ4_grow 30 = .ok (.iload 4, 2) := dk_21 4 (dk_at dksJ4_grow_1 7 rfl rfl)
theorem dJ4_grow_32 : decode cJ4_grow 32 = .ok (.iadd, 1) := dk_96 (dk_at dksJ4_grow_1 9 rfl rfl)
theorem dJ4_grow_33 : decode cJ4_grow 33 = .ok (.dup, 1) := dk_89 (dk_at dksJ4_grow_1 10 rfl rfl)
theorem dJ4_grow_34 : decode cJ4_grow 34 = .ok (.istore_n 3, 1) := dk_62 (dk_at dksJ4_grow_1 11 rfl rfl)
theorem dJ4_grow_35 : decode cJ4_grow 35 = .ok (.ldc 9, 2) := dk_18 9 (dk_at dksJ4_grow_1 12 rfl rfl)
theorem dJ4_grow_37 : decode cJ4_grow 37 = .ok (.isub, 1) := dk_100 (dk_at dksJ4_grow_1 14 rfl rfl)
theorem dJ4_grow_38 : decode cJ4_grow 38 = .ok (.ifCond .le 11, 3) := dk_158 0 11 (dk_at dksJ4_grow_1 15 rfl rfl)
theorem dJ4_grow_41 : decode cJ4_grow 41 = .ok (.aload_n 0, 1) := dk_42 (dk_at dksJ4_grow_1 18 rfl rfl)
theorem dJ4_grow_42 : decode cJ4_grow 42 = .ok (.iload_n 1, 1) := dk_27 (dk_at dksJ4_grow_1 19 rfl rfl)
theorem dJ4_grow_43 : decode cJ4_grow 43 = .ok (.iload 4, 2) := dk_21 4 (dk_at dksJ4_grow_1 20 rfl rfl)
theorem dJ4_grow_45 : decode cJ4_grow 45 = .ok (.invokevirtual 10, 3) := dk_182 0 10 (dk_at dksJ4_grow_2 0 rfl rfl)
theorem dJ4_grow_48 : decode cJ4_grow 48 = .ok (.istore_n 3, 1) := dk_62 (dk_at dksJ4_grow_2 3 rfl rfl)
theorem dJ4_grow_49 : decode cJ4_grow 49 = .ok (.aload_n 0, 1) := dk_42 (dk_at dksJ4_grow_2 4 rfl rfl)
theorem dJ4_grow_50 : decode cJ4_grow 50 = .ok (.aload_n 0, 1) := dk_42 (dk_at dksJ4_grow_2 5 rfl rfl)
theorem dJ4_grow_51 : decode cJ4_grow 51 = .ok (.getfield 3, 3) := dk_180 0 3 (dk_at dksJ4_grow_2 6 rfl rfl)
theorem dJ4_grow_54 : decode cJ4_grow 54 = .ok (.iload_n 3, 1) := dk_29 (dk_at dksJ4_grow_2 9 rfl rfl)
theorem dJ4_grow_55 : decode cJ4_grow 55 = .ok (.invokestatic 14, 3) := dk_184 0 14 (dk_at dksJ4_grow_2 10 rfl rfl)
theorem dJ4_grow_58 : decode cJ4_grow 58 = .ok (.dup_x1, 1) := dk_90 (dk_at dksJ4_grow_2 13 rfl rfl)
theorem dJ4_grow_59 : decode cJ4_grow 59 = .ok (.putfield 3, 3) := dk_181 0 3 (dk_at dksJ4_grow_2 14 rfl rfl)
theorem dJ4_grow_62 : decode cJ4_grow 62 = .ok (.astore 5, 2) := dk_58 5 (dk_at dksJ4_grow_2 17 rfl rfl)
theorem dJ4_grow_64 : decode cJ4_grow 64 = .ok (.aload_n 0, 1) := dk_42 (dk_at dksJ4_grow_2 19 rfl rfl)
theorem dJ4_grow_65 : decode cJ4_grow 65 = .ok (.getfield 20, 3) := dk_180 0 20 (dk_at dksJ4_grow_2 20 rfl rfl)
theorem dJ4_grow_68 : decode cJ4_grow 68 = .ok (.aload_n 0, 1) := dk_42 (dk_at dksJ4_grow_2 23 rfl rfl)
theorem dJ4_grow_69 : decode cJ4_grow 69 = .ok (.getfield 24, 3) := dk_180 0 24 (dk_at dksJ4_grow_3 0 rfl rfl)
theorem dJ4_grow_72 : decode cJ4_grow 72 = .ok (.if_icmp .lt 24, 3) := dk_161 0 24 (dk_at dksJ4_grow_3 3 rfl rfl)
theorem dJ4_grow_75 : decode cJ4_grow 75 = .ok (.aload_n 0, 1) := dk_42 (dk_at dksJ4_grow_3 6 rfl rfl)
theorem dJ4_grow_76 : decode cJ4_grow 76 = .ok (.getfield 20, 3) := dk_180 0 20 (dk_at dksJ4_grow_3 7 rfl rfl)
theorem dJ4_grow_79 : decode cJ4_grow 79 = .ok (.aload_n 0, 1) := dk_42 (dk_at dksJ4_grow_3 10 rfl rfl)
theorem dJ4_grow_80 : decode cJ4_grow 80 = .ok (.getfield 24, 3) := dk_180 0 24 (dk_at dksJ4_grow_3 11 rfl rfl)
theorem dJ4_grow_83 : decode cJ4_grow 83 = .ok (.if_icmp .ne 81, 3) := dk_160 0 81 (dk_at dksJ4_grow_3 14 rfl rfl)
theorem dJ4_grow_86 : decode cJ4_grow 86 = .ok (.aload 5, 2) := dk_25 5 (dk_at dksJ4_grow_3 17 rfl rfl)
theorem dJ4_grow_88 : decode cJ4_grow 88 = .ok (.aload_n 0, 1) := dk_42 (dk_at dksJ4_grow_3 19 rfl rfl)
theorem dJ4_grow_89 : decode cJ4_grow 89 = .ok (.getfield 24, 3) := dk_180 0 24 (dk_at dksJ4_grow_3 20 rfl rfl)
theorem dJ4_grow_92 : decode cJ4_grow 92 = .ok (.aaload, 1) := dk_50 (dk_at dksJ4_grow_3 23 rfl rfl)
theorem dJ4_grow_93 : decode cJ4_grow 93 = .ok (.ifnull 71, 3) := dk_198 0 71 (dk_at dksJ4_grow_4 0 rfl rfl)
theorem dJ4_grow_96 : decode cJ4_grow 96 = .ok (.iload_n 3, 1) := dk_29 (dk_at dksJ4_grow_4 3 rfl rfl)
theorem dJ4_grow_97 : decode cJ4_grow 97 = .ok (.iload_n 2, 1) := dk_28 (dk_at dksJ4_grow_4 4 rfl rfl)
theorem dJ4_grow_98 : decode cJ4_grow 98 = .ok (.isub, 1) := dk_100 (dk_at dksJ4_grow_4 5 rfl rfl)
theorem dJ4_grow_99 : decode cJ4_grow 99 = .ok (.istore 6, 2) := dk_54 6 (dk_at dksJ4_grow_4 6 rfl rfl)
theorem dJ4_grow_101 : decode cJ4_grow 101 = .ok (.aload 5, 2) := dk_25 5 (dk_at dksJ4_grow_4 8 rfl rfl)
theorem dJ4_grow_103 : decode cJ4_grow 103 = .ok (.aload_n 0, 1) := dk_42 (dk_at dksJ4_grow_4 10 rfl rfl)
theorem dJ4_grow_104 : decode cJ4_grow 104 = .ok (.getfield 24, 3) := dk_180 0 24 (dk_at dksJ4_grow_4 11 rfl rfl)
theorem dJ4_grow_107 : decode cJ4_grow 107 = .ok (.aload 5, 2) := dk_25 5 (dk_at dksJ4_grow_4 14 rfl rfl)
theorem dJ4_grow_109 : decode cJ4_grow 109 = .ok (.aload_n 0, 1) := dk_42 (dk_at dksJ4_grow_4 16 rfl rfl)
theorem dJ4_grow_110 : decode cJ4_grow 110 = .ok (.getfield 24, 3) := dk_180 0 24 (dk_at dksJ4_grow_4 17 rfl rfl)
theorem dJ4_grow_113 : decode cJ4_grow 113 = .ok (.iload 6, 2) := dk_21 6 (dk_at dksJ4_grow_4 20 rfl rfl)
theorem dJ4_grow_115 : decode cJ4_grow 115 = .ok (.iadd, 1) := dk_96 (dk_at dksJ4_grow_4 22 rfl rfl)
theorem dJ4_grow_116 : decode cJ4_grow 116 = .ok (.iload_n 2, 1) := dk_28 (dk_at dksJ4_grow_4 23 rfl rfl)
theorem dJ4_grow_117 : decode cJ4_grow 117 = .ok (.aload_n 0, 1) := dk_42 (dk_at dksJ4_grow_5 0 rfl rfl)
theorem dJ4_grow_118 : decode cJ4_grow 118 = .ok (.getfield 24, 3) := dk_180 0 24 (dk_at dksJ4_grow_5 1 rfl rfl)
theorem dJ4_grow_121 : decode cJ4_grow 121 = .ok (.isub, 1) := dk_100 (dk_at dksJ4_grow_5 4 rfl rfl)
theorem dJ4_grow_122 : decode cJ4_grow 122 = .ok (.invokestatic 27, 3) := dk_184 0 27 (dk_at dksJ4_grow_5 5 rfl rfl)
theorem dJ4_grow_125 : decode cJ4_grow 125 = .ok (.aload_n 0, 1) := dk_42 (dk_at dksJ4_grow_5 8 rfl rfl)
theorem dJ4_grow_126 : decode cJ4_grow 126 = .ok (.getfield 24, 3) := dk_180 0 24 (dk_at dksJ4_grow_5 9 rfl rfl)
theorem dJ4_grow_129 : decode cJ4_grow 129 = .ok (.istore 7, 2) := dk_54 7 (dk_at dksJ4_grow_5 12 rfl rfl)
theorem dJ4_grow_131 : decode cJ4_grow 131 = .ok (.aload_n 0, 1) := dk_42 (dk_at dksJ4_grow_5 14 rfl rfl)
theorem dJ4_grow_132 : decode cJ4_grow 132 = .ok (.dup, 1) := dk_89 (dk_at dksJ4_grow_5 15 rfl rfl)
theorem dJ4_grow_133 : decode cJ4_grow 133 = .ok (.getfield 24, 3) := dk_180 0 24 (dk_at dksJ4_grow_5 16 rfl rfl)
theorem dJ4_grow_136 : decode cJ4_grow 136 = .ok (.iload 6, 2) := dk_21 6 (dk_at dksJ4_grow_5 19 rfl rfl)
theorem dJ4_grow_138 : decode cJ4_grow 138 = .ok (.iadd, 1) := dk_96 (dk_at dksJ4_grow_5 21 rfl rfl)
theorem dJ4_grow_139 : decode cJ4_grow 139 = .ok (.dup_x1, 1) := dk_90 (dk_at dksJ4_grow_5 22 rfl rfl)
theorem dJ4_grow_140 : decode cJ4_grow 140 = .ok (.putfield 24, 3) := dk_181 0 24 (dk_at dksJ4_grow_6 0 rfl rfl)
theorem dJ4_grow_143 : decode cJ4_grow 143 = .ok (.istore 8, 2) := dk_54 8 (dk_at dksJ4_grow_6 3 rfl rfl)
theorem dJ4_grow_145 : decode cJ4_grow 145 = .ok (.iload 7, 2) := dk_21 7 (dk_at dksJ4_grow_6 5 rfl rfl)
theorem dJ4_grow_147 : decode cJ4_grow 147 = .ok (.iload 8, 2) := dk_21 8 (dk_at dksJ4_grow_6 7 rfl rfl)
theorem dJ4_grow_149 : decode cJ4_grow 149 = .ok (.if_icmp .ge 15, 3) := dk_162 0 15 (dk_at dksJ4_grow_6 9 rfl rfl)
theorem dJ4_grow_152 : decode cJ4_grow 152 = .ok (.aload 5, 2) := dk_25 5 (dk_at dksJ4_grow_6 12 rfl rfl)
theorem dJ4_grow_154 : decode cJ4_grow 154 = .ok (.iload 7, 2) := dk_21 7 (dk_at dksJ4_grow_6 14 rfl rfl)
theorem dJ4_grow_156 : decode cJ4_grow 156 = .ok (.aconst_null, 1) := dk_1 (dk_at dksJ4_grow_6 16 rfl rfl)
theorem dJ4_grow_157 : decode cJ4_grow 157 = .ok (.aastore, 1) := dk_83 (dk_at dksJ4_grow_6 17 rfl rfl)
theorem dJ4_grow_158 : decode cJ4_grow 158 = .ok (.iinc 7 1, 3) := dk_132 7 1 (dk_at dksJ4_grow_6 18 rfl rfl)
theorem dJ4_grow_161 : decode cJ4_grow 161 = .ok (.goto (-16), 3) := dk_167 255 240 (dk_at dksJ4_grow_6 21 rfl rfl)
theorem dJ4_grow_164 : decode cJ4_grow 164 = .ok (.return_, 1) := dk_177 (dk_at dksJ4_grow_7 0 rfl rfl)
abbrev cJ4_newCapacity : ByteArray := prog_46_method_2_code
def yJ4_newCapacity : MethodName := ⟨RJ4, "newCapacity", "(II)I"⟩
def dkwJ4_newCapacity_2 : List UInt8 := [18, 9, 100, 156, 0, 9, 29, 28, 96, 167, 0, 5, 18, 9, 172]
abbrev dktJ4_newCapacity_2 : List UInt8 := dkwJ4_newCapacity_2 ++ []
def dkwJ4_newCapacity_1 : List UInt8 := [187, 0, 33, 89, 18, 35, 183, 0, 37, 191, 18, 41, 172, 27, 28, 164, 0, 6, 21, 4, 172, 29, 28, 96]
abbrev dktJ4_newCapacity_1 : List UInt8 := dkwJ4_newCapacity_1 ++ dktJ4_newCapacity_2
def dkwJ4_newCapacity_0 : List UInt8 := [42, 180, 0, 3, 190, 62, 29, 27, 96, 89, 54, 4, 18, 9, 100, 158, 0, 21, 21, 4, 156, 0, 13]
abbrev dktJ4_newCapacity_0 : List UInt8 := dkwJ4_newCapacity_0 ++ dktJ4_newCapacity_1
theorem dksJ4_newCapacity_0 : cJ4_newCapacity.data.toList.drop 0 = dktJ4_newCapacity_0 := by decide +kernel
theorem dksJ4_newCapacity_1 : cJ4_newCapacity.data.toList.drop 23 = dktJ4_newCapacity_1 := dk_seg dksJ4_newCapacity_0 23 rfl rfl
theorem dksJ4_newCapacity_2 : cJ4_newCapacity.data.toList.drop 47 = dktJ4_newCapacity_2 := dk_seg dksJ4_newCapacity_1 24 rfl rfl
theorem dJ4_newCapacity_0 : decode cJ4_newCapacity 0 = .ok (.aload_n 0, 1) := dk_42 (dk_at dksJ4_newCapacity_0 0 rfl rfl)
theorem dJ4_newCapacity_1 : decode cJ4_newCapacity 1 = .ok (.getfield 3, 3) := dk_180 0 3 (dk_at dksJ4_newCapacity_0 1 rfl rfl)
theorem dJ4_newCapacity_4 : decode cJ4_newCapacity 4 = .ok (.arraylength, 1) := dk_190 (dk_at dksJ4_newCapacity_0 4 rfl rfl)
theorem dJ4_newCapacity_5 : decode cJ4_newCapacity 5 = .ok (.istore_n 3, 1) := dk_62 (dk_at dksJ4_newCapacity_0 5 rfl rfl)
theorem dJ4_newCapacity_6 : decode cJ4_newCapacity 6 = .ok (.iload_n 3, 1) := dk_29 (dk_at dksJ4_newCapacity_0 6 rfl rfl)
theorem dJ4_newCapacity_7 : decode cJ4_newCapacity 7 = .ok (.iload_n 1, 1) := dk_27 (dk_at dksJ4_newCapacity_0 7 rfl rfl)
theorem dJ4_newCapacity_8 : decode cJ4_newCapacity 8 = .ok (.iadd, 1) := dk_96 (dk_at dksJ4_newCapacity_0 8 rfl rfl)
theorem dJ4_newCapacity_9 : decode cJ4_newCapacity 9 = .ok (.dup, 1) := dk_89 (dk_at dksJ4_newCapacity_0 9 rfl rfl)
theorem dJ4_newCapacity_10 : decode cJ4_newCapacity 10 = .ok (.istore 4, 2) := dk_54 4 (dk_at dksJ4_newCapacity_0 10 rfl rfl)
theorem dJ4_newCapacity_12 : decode cJ4_newCapacity 12 = .ok (.ldc 9, 2) := dk_18 9 (dk_at dksJ4_newCapacity_0 12 rfl rfl)
theorem dJ4_newCapacity_14 : decode cJ4_newCapacity 14 = .ok (.isub, 1) := dk_100 (dk_at dksJ4_newCapacity_0 14 rfl rfl)
theorem dJ4_newCapacity_15 : decode cJ4_newCapacity 15 = .ok (.ifCond .le 21, 3) := dk_158 0 21 (dk_at dksJ4_newCapacity_0 15 rfl rfl)
theorem dJ4_newCapacity_18 : decode cJ4_newCapacity 18 = .ok (.iload 4, 2) := dk_21 4 (dk_at dksJ4_newCapacity_0 18 rfl rfl)
theorem dJ4_newCapacity_20 : decode cJ4_newCapacity 20 = .ok (.ifCond .ge 13, 3) := dk_156 0 13 (dk_at dksJ4_newCapacity_0 20 rfl rfl)
theorem dJ4_newCapacity_23 : decode cJ4_newCapacity 23 = .ok (.new 33, 3) := dk_187 0 33 (dk_at dksJ4_newCapacity_1 0 rfl rfl)
theorem dJ4_newCapacity_26 : decode cJ4_newCapacity 26 = .ok (.dup, 1) := dk_89 (dk_at dksJ4_newCapacity_1 3 rfl rfl)
theorem dJ4_newCapacity_27 : decode cJ4_newCapacity 27 = .ok (.ldc 35, 2) := dk_18 35 (dk_at dksJ4_newCapacity_1 4 rfl rfl)
theorem dJ4_newCapacity_29 : decode cJ4_newCapacity 29 = .ok (.invokespecial 37, 3) := dk_183 0 37 (dk_at dksJ4_newCapacity_1 6 rfl rfl)
theorem dJ4_newCapacity_32 : decode cJ4_newCapacity 32 = .ok (.athrow, 1) := dk_191 (dk_at dksJ4_newCapacity_1 9 rfl rfl)
theorem dJ4_newCapacity_33 : decode cJ4_newCapacity 33 = .ok (.ldc 41, 2) := dk_18 41 (dk_at dksJ4_newCapacity_1 10 rfl rfl)
theorem dJ4_newCapacity_35 : decode cJ4_newCapacity 35 = .ok (.ireturn, 1) := dk_172 (dk_at dksJ4_newCapacity_1 12 rfl rfl)
theorem dJ4_newCapacity_36 : decode cJ4_newCapacity 36 = .ok (.iload_n 1, 1) := dk_27 (dk_at dksJ4_newCapacity_1 13 rfl rfl)
theorem dJ4_newCapacity_37 : decode cJ4_newCapacity 37 = .ok (.iload_n 2, 1) := dk_28 (dk_at dksJ4_newCapacity_1 14 rfl rfl)
theorem dJ4_newCapacity_38 : decode cJ4_newCapacity 38 = .ok (.if_icmp .le 6, 3) := dk_164 0 6 (dk_at dksJ4_newCapacity_1 15 rfl rfl)
theorem dJ4_newCapacity_41 : decode cJ4_newCapacity 41 = .ok (.iload 4, 2) := dk_21 4 (dk_at dksJ4_newCapacity_1 18 rfl rfl)
theorem dJ4_newCapacity_43 : decode cJ4_newCapacity 43 = .ok (.ireturn, 1) := dk_172 (dk_at dksJ4_newCapacity_1 20 rfl rfl)
theorem dJ4_newCapacity_44 : decode cJ4_newCapacity 44 = .ok (.iload_n 3, 1) := dk_29 (dk_at dksJ4_newCapacity_1 21 rfl rfl)
theorem dJ4_newCapacity_45 : decode cJ4_newCapacity 45 = .ok (.iload_n 2, 1) := dk_28 (dk_at dksJ4_newCapacity_1 22 rfl rfl)
theorem dJ4_newCapacity_46 : decode cJ4_newCapacity 46 = .ok (.iadd, 1) := dk_96 (dk_at dksJ4_newCapacity_1 23 rfl rfl)
theorem dJ4_newCapacity_47 : decode cJ4_newCapacity 47 = .ok (.ldc 9, 2) := dk_18 9 (dk_at dksJ4_newCapacity_2 0 rfl rfl)
theorem dJ4_newCapacity_49 : decode cJ4_newCapacity 49 = .ok (.isub, 1) := dk_100 (dk_at dksJ4_newCapacity_2 2 rfl rfl)
theorem dJ4_newCapacity_50 : decode cJ4_newCapacity 50 = .ok (.ifCond .ge 9, 3) := dk_156 0 9 (dk_at dksJ4_newCapacity_2 3 rfl rfl)
theorem dJ4_newCapacity_53 : decode cJ4_newCapacity 53 = .ok (.iload_n 3, 1) := dk_29 (dk_at dksJ4_newCapacity_2 6 rfl rfl)
theorem dJ4_newCapacity_54 : decode cJ4_newCapacity 54 = .ok (.iload_n 2, 1) := dk_28 (dk_at dksJ4_newCapacity_2 7 rfl rfl)
theorem dJ4_newCapacity_55 : decode cJ4_newCapacity 55 = .ok (.iadd, 1) := dk_96 (dk_at dksJ4_newCapacity_2 8 rfl rfl)
theorem dJ4_newCapacity_56 : decode cJ4_newCapacity 56 = .ok (.goto 5, 3) := dk_167 0 5 (dk_at dksJ4_newCapacity_2 9 rfl rfl)
theorem dJ4_newCapacity_59 : decode cJ4_newCapacity 59 = .ok (.ldc 9, 2) := dk_18 9 (dk_at dksJ4_newCapacity_2 12 rfl rfl)
theorem dJ4_newCapacity_61 : decode cJ4_newCapacity 61 = .ok (.ireturn, 1) := dk_172 (dk_at dksJ4_newCapacity_2 14 rfl rfl)
abbrev cJ4_removeFirst : ByteArray := prog_46_method_18_code
def yJ4_removeFirst : MethodName := ⟨RJ4, "removeFirst", "()Ljava/lang/Object;"⟩
def dkwJ4_removeFirst_0 : List UInt8 := [42, 182, 0, 93, 76, 43, 199, 0, 11, 187, 0, 97, 89, 183, 0, 99, 191, 43, 176]
abbrev dktJ4_removeFirst_0 : List UInt8 := dkwJ4_removeFirst_0 ++ []
theorem dksJ4_removeFirst_0 : cJ4_removeFirst.data.toList.drop 0 = dktJ4_removeFirst_0 := by decide +kernel
theorem dJ4_removeFirst_0 : decode cJ4_removeFirst 0 = .ok (.aload_n 0, 1) := dk_42 (dk_at dksJ4_removeFirst_0 0 rfl rfl)
theorem dJ4_removeFirst_1 : decode cJ4_removeFirst 1 = .ok (.invokevirtual 93, 3) := dk_182 0 93 (dk_at dksJ4_removeFirst_0 1 rfl rfl)
theorem dJ4_removeFirst_4 : decode cJ4_removeFirst 4 = .ok (.astore_n 1, 1) := dk_76 (dk_at dksJ4_removeFirst_0 4 rfl rfl)
theorem dJ4_removeFirst_5 : decode cJ4_removeFirst 5 = .ok (.aload_n 1, 1) := dk_43 (dk_at dksJ4_removeFirst_0 5 rfl rfl)
theorem dJ4_removeFirst_6 : decode cJ4_removeFirst 6 = .ok (.ifnonnull 11, 3) := dk_199 0 11 (dk_at dksJ4_removeFirst_0 6 rfl rfl)
theorem dJ4_removeFirst_9 : decode cJ4_removeFirst 9 = .ok (.new 97, 3) := dk_187 0 97 (dk_at dksJ4_removeFirst_0 9 rfl rfl)
theorem dJ4_removeFirst_12 : decode cJ4_removeFirst 12 = .ok (.dup, 1) := dk_89 (dk_at dksJ4_removeFirst_0 12 rfl rfl)
theorem dJ4_removeFirst_13 : decode cJ4_removeFirst 13 = .ok (.invokespecial 99, 3) := dk_183 0 99 (dk_at dksJ4_removeFirst_0 13 rfl rfl)
theorem dJ4_removeFirst_16 : decode cJ4_removeFirst 16 = .ok (.athrow, 1) := dk_191 (dk_at dksJ4_removeFirst_0 16 rfl rfl)
theorem dJ4_removeFirst_17 : decode cJ4_removeFirst 17 = .ok (.aload_n 1, 1) := dk_43 (dk_at dksJ4_removeFirst_0 17 rfl rfl)
theorem dJ4_removeFirst_18 : decode cJ4_removeFirst 18 = .ok (.areturn, 1) := dk_176 (dk_at dksJ4_removeFirst_0 18 rfl rfl)
abbrev cJ4_pollFirst : ByteArray := prog_46_method_20_code
def yJ4_pollFirst : MethodName := ⟨RJ4, "pollFirst", "()Ljava/lang/Object;"⟩
def dkwJ4_pollFirst_1 : List UInt8 := [42, 28, 43, 190, 184, 0, 74, 181, 0, 24, 45, 176]
abbrev dktJ4_pollFirst_1 : List UInt8 := dkwJ4_pollFirst_1 ++ []
def dkwJ4_pollFirst_0 : List UInt8 := [42, 180, 0, 3, 89, 76, 42, 180, 0, 24, 89, 61, 184, 0, 103, 78, 45, 198, 0, 17, 43, 28, 1, 83]
abbrev dktJ4_pollFirst_0 : List UInt8 := dkwJ4_pollFirst_0 ++ dktJ4_pollFirst_1
theorem dksJ4_pollFirst_0 : cJ4_pollFirst.data.toList.drop 0 = dktJ4_pollFirst_0 := by decide +kernel
theorem dksJ4_pollFirst_1 : cJ4_pollFirst.data.toList.drop 24 = dktJ4_pollFirst_1 := dk_seg dksJ4_pollFirst_0 24 rfl rfl
theorem dJ4_pollFirst_0 : decode cJ4_pollFirst 0 = .ok (.aload_n 0, 1) := dk_42 (dk_at dksJ4_pollFirst_0 0 rfl rfl)
theorem dJ4_pollFirst_1 : decode cJ4_pollFirst 1 = .ok (.getfield 3, 3) := dk_180 0 3 (dk_at dksJ4_pollFirst_0 1 rfl rfl)
theorem dJ4_pollFirst_4 : decode cJ4_pollFirst 4 = .ok (.dup, 1) := dk_89 (dk_at dksJ4_pollFirst_0 4 rfl rfl)
theorem dJ4_pollFirst_5 : decode cJ4_pollFirst 5 = .ok (.astore_n 1, 1) := dk_76 (dk_at dksJ4_pollFirst_0 5 rfl rfl)
theorem dJ4_pollFirst_6 : decode cJ4_pollFirst 6 = .ok (.aload_n 0, 1) := dk_42 (dk_at dksJ4_pollFirst_0 6 rfl rfl)
theorem dJ4_pollFirst_7 : decode cJ4_pollFirst 7 = .ok (.getfield 24, 3) := dk_180 0 24 (dk_at dksJ4_pollFirst_0 7 rfl rfl)
theorem dJ4_pollFirst_10 : decode cJ4_pollFirst 10 = .ok (.dup, 1) := dk_89 (dk_at dksJ4_pollFirst_0 10 rfl rfl)
theorem dJ4_pollFirst_11 : decode cJ4_pollFirst 11 = .ok (.istore_n 2, 1) := dk_61 (dk_at dksJ4_pollFirst_0 11 rfl rfl)
theorem dJ4_pollFirst_12 : decode cJ4_pollFirst 12 = .ok (.invokestatic 103, 3) := dk_184 0 103 (dk_at dksJ4_pollFirst_0 12 rfl rfl)
theorem dJ4_pollFirst_15 : decode cJ4_pollFirst 15 = .ok (.astore_n 3, 1) := dk_78 (dk_at dksJ4_pollFirst_0 15 rfl rfl)
theorem dJ4_pollFirst_16 : decode cJ4_pollFirst 16 = .ok (.aload_n 3, 1) := dk_45 (dk_at dksJ4_pollFirst_0 16 rfl rfl)
theorem dJ4_pollFirst_17 : decode cJ4_pollFirst 17 = .ok (.ifnull 17, 3) := dk_198 0 17 (dk_at dksJ4_pollFirst_0 17 rfl rfl)
theorem dJ4_pollFirst_20 : decode cJ4_pollFirst 20 = .ok (.aload_n 1, 1) := dk_43 (dk_at dksJ4_pollFirst_0 20 rfl rfl)
theorem dJ4_pollFirst_21 : decode cJ4_pollFirst 21 = .ok (.iload_n 2, 1) := dk_28 (dk_at dksJ4_pollFirst_0 21 rfl rfl)
theorem dJ4_pollFirst_22 : decode cJ4_pollFirst 22 = .ok (.aconst_null, 1) := dk_1 (dk_at dksJ4_pollFirst_0 22 rfl rfl)
theorem dJ4_pollFirst_23 : decode cJ4_pollFirst 23 = .ok (.aastore, 1) := dk_83 (dk_at dksJ4_pollFirst_0 23 rfl rfl)
theorem dJ4_pollFirst_24 : decode cJ4_pollFirst 24 = .ok (.aload_n 0, 1) := dk_42 (dk_at dksJ4_pollFirst_1 0 rfl rfl)
theorem dJ4_pollFirst_25 : decode cJ4_pollFirst 25 = .ok (.iload_n 2, 1) := dk_28 (dk_at dksJ4_pollFirst_1 1 rfl rfl)
theorem dJ4_pollFirst_26 : decode cJ4_pollFirst 26 = .ok (.aload_n 1, 1) := dk_43 (dk_at dksJ4_pollFirst_1 2 rfl rfl)
theorem dJ4_pollFirst_27 : decode cJ4_pollFirst 27 = .ok (.arraylength, 1) := dk_190 (dk_at dksJ4_pollFirst_1 3 rfl rfl)
theorem dJ4_pollFirst_28 : decode cJ4_pollFirst 28 = .ok (.invokestatic 74, 3) := dk_184 0 74 (dk_at dksJ4_pollFirst_1 4 rfl rfl)
theorem dJ4_pollFirst_31 : decode cJ4_pollFirst 31 = .ok (.putfield 24, 3) := dk_181 0 24 (dk_at dksJ4_pollFirst_1 7 rfl rfl)
theorem dJ4_pollFirst_34 : decode cJ4_pollFirst 34 = .ok (.aload_n 3, 1) := dk_45 (dk_at dksJ4_pollFirst_1 10 rfl rfl)
theorem dJ4_pollFirst_35 : decode cJ4_pollFirst 35 = .ok (.areturn, 1) := dk_176 (dk_at dksJ4_pollFirst_1 11 rfl rfl)
theorem q123 : (Jvm.Cond.initialized "java/util/ArrayDeque") ∈ lw_all := lw_g (lw_at lw_m1 8 rfl) rfl
theorem q257 : (Jvm.Cond.instantiable "java/util/ArrayDeque" (3 : Nat)) ∈ lw_all := lw_g (lw_at lw_m1 142 rfl) rfl
theorem q259 : (Jvm.Cond.instanceMethod ({ cls := "java/util/ArrayDeque", name := "<init>", desc := "()V" } : Jvm.MethodName)) ∈ lw_all := lw_g (lw_at lw_m1 144 rfl) rfl
theorem q260 : (Jvm.Cond.code ({ cls := "java/util/ArrayDeque", name := "<init>", desc := "()V" } : Jvm.MethodName) prog_46_method_3_code (1 : Nat) (Option.none : Option Jvm.ClassFile.FieldType)) ∈ lw_all := lw_g (lw_at lw_m1 145 rfl) rfl
theorem q261 : (Jvm.Cond.methodLink "java/util/ArrayDeque" (42 : Nat) ({ cls := "java/util/AbstractCollection", name := "<init>", desc := "()V" } : Jvm.MethodName)) ∈ lw_all := lw_g (lw_at lw_m1 146 rfl) rfl
theorem q262 : (Jvm.Cond.classLink "java/util/ArrayDeque" (47 : Nat) "java/lang/Object") ∈ lw_all := lw_g (lw_at lw_m1 147 rfl) rfl
theorem q264 : (Jvm.Cond.fieldLink "java/util/ArrayDeque" (3 : Nat) "java/util/ArrayDeque" "elements" "[Ljava/lang/Object;") ∈ lw_all := lw_g (lw_at lw_m1 149 rfl) rfl
theorem q265 : (Jvm.Cond.fieldLink "java/util/ArrayDeque" (24 : Nat) "java/util/ArrayDeque" "head" "I") ∈ lw_all := lw_g (lw_at lw_m1 150 rfl) rfl
theorem q266 : (Jvm.Cond.fieldLink "java/util/ArrayDeque" (20 : Nat) "java/util/ArrayDeque" "tail" "I") ∈ lw_all := lw_g (lw_at lw_m1 151 rfl) rfl
theorem q267 : (Jvm.Cond.lays "java/util/ArrayDeque" "java/util/ArrayDeque" "elements" "[Ljava/lang/Object;") ∈ lw_all := lw_g (lw_at lw_m1 152 rfl) rfl
theorem q268 : (Jvm.Cond.soleField "java/util/ArrayDeque" "elements") ∈ lw_all := lw_g (lw_at lw_m1 153 rfl) rfl
theorem q269 : (Jvm.Cond.lays "java/util/ArrayDeque" "java/util/ArrayDeque" "head" "I") ∈ lw_all := lw_g (lw_at lw_m1 154 rfl) rfl
theorem q270 : (Jvm.Cond.soleField "java/util/ArrayDeque" "head") ∈ lw_all := lw_g (lw_at lw_m1 155 rfl) rfl
theorem q271 : (Jvm.Cond.lays "java/util/ArrayDeque" "java/util/ArrayDeque" "tail" "I") ∈ lw_all := lw_g (lw_at lw_m1 156 rfl) rfl
theorem q272 : (Jvm.Cond.soleField "java/util/ArrayDeque" "tail") ∈ lw_all := lw_g (lw_at lw_m1 157 rfl) rfl
theorem q273 : (Jvm.Cond.superclass "java/util/ArrayDeque" "java/util/AbstractCollection") ∈ lw_all := lw_g (lw_at lw_m1 158 rfl) rfl
theorem q331 : (Jvm.Cond.instanceMethod ({ cls := "java/util/ArrayDeque", name := "isEmpty", desc := "()Z" } : Jvm.MethodName)) ∈ lw_all := lw_g (lw_at lw_m1 216 rfl) rfl
theorem q332 : (Jvm.Cond.selects "java/util/ArrayDeque" ({ cls := "java/util/ArrayDeque", name := "isEmpty", desc := "()Z" } : Jvm.MethodName) ({ cls := "java/util/ArrayDeque", name := "isEmpty", desc := "()Z" } : Jvm.MethodName)) ∈ lw_all := lw_g (lw_at lw_m1 217 rfl) rfl
theorem q333 : (Jvm.Cond.code ({ cls := "java/util/ArrayDeque", name := "isEmpty", desc := "()Z" } : Jvm.MethodName) prog_46_method_38_code (1 : Nat) (Option.some Jvm.ClassFile.FieldType.boolean)) ∈ lw_all := lw_g (lw_at lw_m1 218 rfl) rfl
theorem q335 : (Jvm.Cond.instanceMethod ({ cls := "java/util/ArrayDeque", name := "removeLast", desc := "()Ljava/lang/Object;" } : Jvm.MethodName)) ∈ lw_all := lw_g (lw_at lw_m1 220 rfl) rfl
theorem q336 : (Jvm.Cond.selects "java/util/ArrayDeque" ({ cls := "java/util/ArrayDeque", name := "removeLast", desc := "()Ljava/lang/Object;" } : Jvm.MethodName) ({ cls := "java/util/ArrayDeque", name := "removeLast", desc := "()Ljava/lang/Object;" } : Jvm.MethodName)) ∈ lw_all := lw_g (lw_at lw_m1 221 rfl) rfl
theorem q337 : (Jvm.Cond.code ({ cls := "java/util/ArrayDeque", name := "removeLast", desc := "()Ljava/lang/Object;" } : Jvm.MethodName) prog_46_method_19_code (2 : Nat) (Option.some (Jvm.ClassFile.FieldType.object "java/lang/Object"))) ∈ lw_all := lw_g (lw_at lw_m1 222 rfl) rfl
theorem q338 : (Jvm.Cond.methodLink "java/util/ArrayDeque" (100 : Nat) ({ cls := "java/util/ArrayDeque", name := "pollLast", desc := "()Ljava/lang/Object;" } : Jvm.MethodName)) ∈ lw_all := lw_g (lw_at lw_m1 223 rfl) rfl
theorem q339 : (Jvm.Cond.instanceMethod ({ cls := "java/util/ArrayDeque", name := "pollLast", desc := "()Ljava/lang/Object;" } : Jvm.MethodName)) ∈ lw_all := lw_g (lw_at lw_m1 224 rfl) rfl
theorem q340 : (Jvm.Cond.selects "java/util/ArrayDeque" ({ cls := "java/util/ArrayDeque", name := "pollLast", desc := "()Ljava/lang/Object;" } : Jvm.MethodName) ({ cls := "java/util/ArrayDeque", name := "pollLast", desc := "()Ljava/lang/Object;" } : Jvm.MethodName)) ∈ lw_all := lw_g (lw_at lw_m1 225 rfl) rfl
theorem q341 : (Jvm.Cond.code ({ cls := "java/util/ArrayDeque", name := "pollLast", desc := "()Ljava/lang/Object;" } : Jvm.MethodName) prog_46_method_21_code (4 : Nat) (Option.some (Jvm.ClassFile.FieldType.object "java/lang/Object"))) ∈ lw_all := lw_g (lw_at lw_m1 226 rfl) rfl
theorem q342 : (Jvm.Cond.methodLink "java/util/ArrayDeque" (68 : Nat) ({ cls := "java/util/ArrayDeque", name := "dec", desc := "(II)I" } : Jvm.MethodName)) ∈ lw_all := lw_g (lw_at lw_m1 227 rfl) rfl
theorem q343 : (Jvm.Cond.static ({ cls := "java/util/ArrayDeque", name := "dec", desc := "(II)I" } : Jvm.MethodName)) ∈ lw_all := lw_g (lw_at lw_m1 228 rfl) rfl
theorem q344 : (Jvm.Cond.code ({ cls := "java/util/ArrayDeque", name := "dec", desc := "(II)I" } : Jvm.MethodName) prog_46_method_7_code (2 : Nat) (Option.some Jvm.ClassFile.FieldType.int)) ∈ lw_all := lw_g (lw_at lw_m1 229 rfl) rfl
theorem q345 : (Jvm.Cond.methodLink "java/util/ArrayDeque" (103 : Nat) ({ cls := "java/util/ArrayDeque", name := "elementAt", desc := "([Ljava/lang/Object;I)Ljava/lang/Object;" } : Jvm.MethodName)) ∈ lw_all := lw_g (lw_at lw_m1 230 rfl) rfl
theorem q346 : (Jvm.Cond.static ({ cls := "java/util/ArrayDeque", name := "elementAt", desc := "([Ljava/lang/Object;I)Ljava/lang/Object;" } : Jvm.MethodName)) ∈ lw_all := lw_g (lw_at lw_m1 231 rfl) rfl
theorem q347 : (Jvm.Cond.code ({ cls := "java/util/ArrayDeque", name := "elementAt", desc := "([Ljava/lang/Object;I)Ljava/lang/Object;" } : Jvm.MethodName) prog_46_method_10_code (2 : Nat) (Option.some (Jvm.ClassFile.FieldType.object "java/lang/Object"))) ∈ lw_all := lw_g (lw_at lw_m1 232 rfl) rfl
theorem q348 : (Jvm.Cond.classLink "java/util/ArrayDeque" (97 : Nat) "java/util/NoSuchElementException") ∈ lw_all := lw_g (lw_at lw_m1 233 rfl) rfl
theorem q393 : (Jvm.Cond.methodLink "java/util/ArrayDeque" (99 : Nat) ({ cls := "java/util/NoSuchElementException", name := "<init>", desc := "()V" } : Jvm.MethodName)) ∈ lw_all := lw_g (lw_at lw_m2 38 rfl) rfl
theorem q417 : (Jvm.Cond.instanceMethod ({ cls := "java/util/ArrayDeque", name := "size", desc := "()I" } : Jvm.MethodName)) ∈ lw_all := lw_g (lw_at lw_m2 62 rfl) rfl
theorem q418 : (Jvm.Cond.selects "java/util/ArrayDeque" ({ cls := "java/util/ArrayDeque", name := "size", desc := "()I" } : Jvm.MethodName) ({ cls := "java/util/ArrayDeque", name := "size", desc := "()I" } : Jvm.MethodName)) ∈ lw_all := lw_g (lw_at lw_m2 63 rfl) rfl
theorem q419 : (Jvm.Cond.code ({ cls := "java/util/ArrayDeque", name := "size", desc := "()I" } : Jvm.MethodName) prog_46_method_37_code (1 : Nat) (Option.some Jvm.ClassFile.FieldType.int)) ∈ lw_all := lw_g (lw_at lw_m2 64 rfl) rfl
theorem q420 : (Jvm.Cond.methodLink "java/util/ArrayDeque" (127 : Nat) ({ cls := "java/util/ArrayDeque", name := "sub", desc := "(III)I" } : Jvm.MethodName)) ∈ lw_all := lw_g (lw_at lw_m2 65 rfl) rfl
theorem q421 : (Jvm.Cond.static ({ cls := "java/util/ArrayDeque", name := "sub", desc := "(III)I" } : Jvm.MethodName)) ∈ lw_all := lw_g (lw_at lw_m2 66 rfl) rfl
theorem q422 : (Jvm.Cond.code ({ cls := "java/util/ArrayDeque", name := "sub", desc := "(III)I" } : Jvm.MethodName) prog_46_method_9_code (3 : Nat) (Option.some Jvm.ClassFile.FieldType.int)) ∈ lw_all := lw_g (lw_at lw_m2 67 rfl) rfl
theorem q684 : (Jvm.Cond.selects "java/util/ArrayDeque" ({ cls := "java/lang/Object", name := "getClass", desc := "()Ljava/lang/Class;" } : Jvm.MethodName) ({ cls := "java/lang/Object", name := "getClass", desc := "()Ljava/lang/Class;" } : Jvm.MethodName)) ∈ lw_all := lw_g (lw_at lw_m3 89 rfl) rfl
theorem q1534 : (Jvm.Cond.instanceMethod ({ cls := "java/util/ArrayDeque", name := "clear", desc := "()V" } : Jvm.MethodName)) ∈ lw_all := lw_g (lw_at lw_m6 219 rfl) rfl
theorem q1535 : (Jvm.Cond.selects "java/util/ArrayDeque" ({ cls := "java/util/ArrayDeque", name := "clear", desc := "()V" } : Jvm.MethodName) ({ cls := "java/util/ArrayDeque", name := "clear", desc := "()V" } : Jvm.MethodName)) ∈ lw_all := lw_g (lw_at lw_m6 220 rfl) rfl
theorem q1536 : (Jvm.Cond.code ({ cls := "java/util/ArrayDeque", name := "clear", desc := "()V" } : Jvm.MethodName) prog_46_method_53_code (1 : Nat) (Option.none : Option Jvm.ClassFile.FieldType)) ∈ lw_all := lw_g (lw_at lw_m6 221 rfl) rfl
theorem q1537 : (Jvm.Cond.methodLink "java/util/ArrayDeque" (181 : Nat) ({ cls := "java/util/ArrayDeque", name := "circularClear", desc := "([Ljava/lang/Object;II)V" } : Jvm.MethodName)) ∈ lw_all := lw_g (lw_at lw_m6 222 rfl) rfl
theorem q1538 : (Jvm.Cond.static ({ cls := "java/util/ArrayDeque", name := "circularClear", desc := "([Ljava/lang/Object;II)V" } : Jvm.MethodName)) ∈ lw_all := lw_g (lw_at lw_m6 223 rfl) rfl
theorem q1539 : (Jvm.Cond.code ({ cls := "java/util/ArrayDeque", name := "circularClear", desc := "([Ljava/lang/Object;II)V" } : Jvm.MethodName) prog_46_method_54_code (4 : Nat) (Option.none : Option Jvm.ClassFile.FieldType)) ∈ lw_all := lw_g (lw_at lw_m6 224 rfl) rfl
theorem q1555 : (Jvm.Cond.instanceMethod ({ cls := "java/util/ArrayDeque", name := "addLast", desc := "(Ljava/lang/Object;)V" } : Jvm.MethodName)) ∈ lw_all := lw_g (lw_at lw_m7 0 rfl) rfl
theorem q1556 : (Jvm.Cond.selects "java/util/ArrayDeque" ({ cls := "java/util/ArrayDeque", name := "addLast", desc := "(Ljava/lang/Object;)V" } : Jvm.MethodName) ({ cls := "java/util/ArrayDeque", name := "addLast", desc := "(Ljava/lang/Object;)V" } : Jvm.MethodName)) ∈ lw_all := lw_g (lw_at lw_m7 1 rfl) rfl
theorem q1557 : (Jvm.Cond.code ({ cls := "java/util/ArrayDeque", name := "addLast", desc := "(Ljava/lang/Object;)V" } : Jvm.MethodName) prog_46_method_13_code (3 : Nat) (Option.none : Option Jvm.ClassFile.FieldType)) ∈ lw_all := lw_g (lw_at lw_m7 2 rfl) rfl
theorem q1558 : (Jvm.Cond.methodLink "java/util/ArrayDeque" (74 : Nat) ({ cls := "java/util/ArrayDeque", name := "inc", desc := "(II)I" } : Jvm.MethodName)) ∈ lw_all := lw_g (lw_at lw_m7 3 rfl) rfl
theorem q1559 : (Jvm.Cond.static ({ cls := "java/util/ArrayDeque", name := "inc", desc := "(II)I" } : Jvm.MethodName)) ∈ lw_all := lw_g (lw_at lw_m7 4 rfl) rfl
theorem q1560 : (Jvm.Cond.code ({ cls := "java/util/ArrayDeque", name := "inc", desc := "(II)I" } : Jvm.MethodName) prog_46_method_6_code (2 : Nat) (Option.some Jvm.ClassFile.FieldType.int)) ∈ lw_all := lw_g (lw_at lw_m7 5 rfl) rfl
theorem q1561 : (Jvm.Cond.methodLink "java/util/ArrayDeque" (71 : Nat) ({ cls := "java/util/ArrayDeque", name := "grow", desc := "(I)V" } : Jvm.MethodName)) ∈ lw_all := lw_g (lw_at lw_m7 6 rfl) rfl
theorem q1562 : (Jvm.Cond.privateMethod ({ cls := "java/util/ArrayDeque", name := "grow", desc := "(I)V" } : Jvm.MethodName)) ∈ lw_tbl := lw_at lw_m7 7 rfl
theorem q1563 : (Jvm.Cond.instanceMethod ({ cls := "java/util/ArrayDeque", name := "grow", desc := "(I)V" } : Jvm.MethodName)) ∈ lw_all := lw_g (lw_at lw_m7 8 rfl) rfl
theorem q1564 : (Jvm.Cond.code ({ cls := "java/util/ArrayDeque", name := "grow", desc := "(I)V" } : Jvm.MethodName) prog_46_method_1_code (9 : Nat) (Option.none : Option Jvm.ClassFile.FieldType)) ∈ lw_all := lw_g (lw_at lw_m7 9 rfl) rfl
theorem q1565 : (Jvm.Cond.constant "java/util/ArrayDeque" (9 : Nat) (2147483639 : Int32)) ∈ lw_all := lw_g (lw_at lw_m7 10 rfl) rfl
theorem q1566 : (Jvm.Cond.methodLink "java/util/ArrayDeque" (10 : Nat) ({ cls := "java/util/ArrayDeque", name := "newCapacity", desc := "(II)I" } : Jvm.MethodName)) ∈ lw_all := lw_g (lw_at lw_m7 11 rfl) rfl
theorem q1567 : (Jvm.Cond.privateMethod ({ cls := "java/util/ArrayDeque", name := "newCapacity", desc := "(II)I" } : Jvm.MethodName)) ∈ lw_tbl := lw_at lw_m7 12 rfl
theorem q1568 : (Jvm.Cond.instanceMethod ({ cls := "java/util/ArrayDeque", name := "newCapacity", desc := "(II)I" } : Jvm.MethodName)) ∈ lw_all := lw_g (lw_at lw_m7 13 rfl) rfl
theorem q1569 : (Jvm.Cond.code ({ cls := "java/util/ArrayDeque", name := "newCapacity", desc := "(II)I" } : Jvm.MethodName) prog_46_method_2_code (5 : Nat) (Option.some Jvm.ClassFile.FieldType.int)) ∈ lw_all := lw_g (lw_at lw_m7 14 rfl) rfl
theorem q1570 : (Jvm.Cond.classLink "java/util/ArrayDeque" (33 : Nat) "java/lang/IllegalStateException") ∈ lw_all := lw_g (lw_at lw_m7 15 rfl) rfl
theorem q1579 : (Jvm.Cond.stringRef "java/util/ArrayDeque" (35 : Nat) "Sorry, deque too big") ∈ lw_tbl := lw_at lw_m7 24 rfl
theorem q1580 : (Jvm.Cond.methodLink "java/util/ArrayDeque" (37 : Nat) ({ cls := "java/lang/IllegalStateException", name := "<init>", desc := "(Ljava/lang/String;)V" } : Jvm.MethodName)) ∈ lw_all := lw_g (lw_at lw_m7 25 rfl) rfl
theorem q1586 : (Jvm.Cond.constant "java/util/ArrayDeque" (41 : Nat) (2147483647 : Int32)) ∈ lw_all := lw_g (lw_at lw_m7 31 rfl) rfl
theorem q1587 : (Jvm.Cond.methodLink "java/util/ArrayDeque" (14 : Nat) ({ cls := "java/util/Arrays", name := "copyOf", desc := "([Ljava/lang/Object;I)[Ljava/lang/Object;" } : Jvm.MethodName)) ∈ lw_all := lw_g (lw_at lw_m7 32 rfl) rfl
theorem q1596 : (Jvm.Cond.methodLink "java/util/ArrayDeque" (27 : Nat) ({ cls := "java/lang/System", name := "arraycopy", desc := "(Ljava/lang/Object;ILjava/lang/Object;II)V" } : Jvm.MethodName)) ∈ lw_all := lw_g (lw_at lw_m7 41 rfl) rfl
theorem q1598 : (Jvm.Cond.instanceMethod ({ cls := "java/util/ArrayDeque", name := "removeFirst", desc := "()Ljava/lang/Object;" } : Jvm.MethodName)) ∈ lw_all := lw_g (lw_at lw_m7 43 rfl) rfl
theorem q1599 : (Jvm.Cond.selects "java/util/ArrayDeque" ({ cls := "java/util/ArrayDeque", name := "removeFirst", desc := "()Ljava/lang/Object;" } : Jvm.MethodName) ({ cls := "java/util/ArrayDeque", name := "removeFirst", desc := "()Ljava/lang/Object;" } : Jvm.MethodName)) ∈ lw_all := lw_g (lw_at lw_m7 44 rfl) rfl
theorem q1600 : (Jvm.Cond.code ({ cls := "java/util/ArrayDeque", name := "removeFirst", desc := "()Ljava/lang/Object;" } : Jvm.MethodName) prog_46_method_18_code (2 : Nat) (Option.some (Jvm.ClassFile.FieldType.object "java/lang/Object"))) ∈ lw_all := lw_g (lw_at lw_m7 45 rfl) rfl
theorem q1601 : (Jvm.Cond.methodLink "java/util/ArrayDeque" (93 : Nat) ({ cls := "java/util/ArrayDeque", name := "pollFirst", desc := "()Ljava/lang/Object;" } : Jvm.MethodName)) ∈ lw_all := lw_g (lw_at lw_m7 46 rfl) rfl
theorem q1602 : (Jvm.Cond.instanceMethod ({ cls := "java/util/ArrayDeque", name := "pollFirst", desc := "()Ljava/lang/Object;" } : Jvm.MethodName)) ∈ lw_all := lw_g (lw_at lw_m7 47 rfl) rfl
theorem q1603 : (Jvm.Cond.selects "java/util/ArrayDeque" ({ cls := "java/util/ArrayDeque", name := "pollFirst", desc := "()Ljava/lang/Object;" } : Jvm.MethodName) ({ cls := "java/util/ArrayDeque", name := "pollFirst", desc := "()Ljava/lang/Object;" } : Jvm.MethodName)) ∈ lw_all := lw_g (lw_at lw_m7 48 rfl) rfl
theorem q1604 : (Jvm.Cond.code ({ cls := "java/util/ArrayDeque", name := "pollFirst", desc := "()Ljava/lang/Object;" } : Jvm.MethodName) prog_46_method_20_code (4 : Nat) (Option.some (Jvm.ClassFile.FieldType.object "java/lang/Object"))) ∈ lw_all := lw_g (lw_at lw_m7 49 rfl) rfl
theorem q2857 : (Jvm.Cond.castable "java/util/ArrayDeque" "java/lang/Object") ∈ lw_tbl := lw_at lw_m12 102 rfl
theorem in_J4 : ∀ w ∈ wsJ40, w ∈ lw_all := lw_in wsJ40 [267, 269, 271] (by decide +kernel) (by decide +kernel)
/-! java/util/List -/
set_option maxRecDepth 100000
def RJ5 : String := "java/util/List"
abbrev cJ5_of : ByteArray := prog_62_method_44_code
def yJ5_of : MethodName := ⟨RJ5, "of", "(Ljava/lang/Object;Ljava/lang/Object;Ljava/lang/Object;Ljava/lang/Object;Ljava/lang/Object;Ljava/lang/Object;Ljava/lang/Object;Ljava/lang/Object;)Ljava/util/List;"⟩
def dkwJ5_of_1 : List UInt8 := [25, 4, 83, 89, 8, 25, 5, 83, 89, 16, 6, 25, 6, 83, 89, 16, 7, 25, 7, 83, 184, 0, 105, 176]
abbrev dktJ5_of_1 : List UInt8 := dkwJ5_of_1 ++ []
def dkwJ5_of_0 : List UInt8 := [16, 8, 189, 0, 103, 89, 3, 42, 83, 89, 4, 43, 83, 89, 5, 44, 83, 89, 6, 45, 83, 89, 7]
abbrev dktJ5_of_0 : List UInt8 := dkwJ5_of_0 ++ dktJ5_of_1
theorem dksJ5_of_0 : cJ5_of.data.toList.drop 0 = dktJ5_of_0 := by decide +kernel
theorem dksJ5_of_1 : cJ5_of.data.toList.drop 23 = dktJ5_of_1 := dk_seg dksJ5_of_0 23 rfl rfl
theorem dJ5_of_0 : decode cJ5_of 0 = .ok (.bipush 8, 2) := dk_16 8 (dk_at dksJ5_of_0 0 rfl rfl)
theorem dJ5_of_2 : decode cJ5_of 2 = .ok (.anewarray 103, 3) := dk_189 0 103 (dk_at dksJ5_of_0 2 rfl rfl)
theorem dJ5_of_5 : decode cJ5_of 5 = .ok (.dup, 1) := dk_89 (dk_at dksJ5_of_0 5 rfl rfl)
theorem dJ5_of_6 : decode cJ5_of 6 = .ok (.iconst 0, 1) := dk_3 (dk_at dksJ5_of_0 6 rfl rfl)
theorem dJ5_of_7 : decode cJ5_of 7 = .ok (.aload_n 0, 1) := dk_42 (dk_at dksJ5_of_0 7 rfl rfl)
theorem dJ5_of_8 : decode cJ5_of 8 = .ok (.aastore, 1) := dk_83 (dk_at dksJ5_of_0 8 rfl rfl)
theorem dJ5_of_9 : decode cJ5_of 9 = .ok (.dup, 1) := dk_89 (dk_at dksJ5_of_0 9 rfl rfl)
theorem dJ5_of_10 : decode cJ5_of 10 = .ok (.iconst 1, 1) := dk_4 (dk_at dksJ5_of_0 10 rfl rfl)
theorem dJ5_of_11 : decode cJ5_of 11 = .ok (.aload_n 1, 1) := dk_43 (dk_at dksJ5_of_0 11 rfl rfl)
theorem dJ5_of_12 : decode cJ5_of 12 = .ok (.aastore, 1) := dk_83 (dk_at dksJ5_of_0 12 rfl rfl)
theorem dJ5_of_13 : decode cJ5_of 13 = .ok (.dup, 1) := dk_89 (dk_at dksJ5_of_0 13 rfl rfl)
theorem dJ5_of_14 : decode cJ5_of 14 = .ok (.iconst 2, 1) := dk_5 (dk_at dksJ5_of_0 14 rfl rfl)
theorem dJ5_of_15 : decode cJ5_of 15 = .ok (.aload_n 2, 1) := dk_44 (dk_at dksJ5_of_0 15 rfl rfl)
theorem dJ5_of_16 : decode cJ5_of 16 = .ok (.aastore, 1) := dk_83 (dk_at dksJ5_of_0 16 rfl rfl)
theorem dJ5_of_17 : decode cJ5_of 17 = .ok (.dup, 1) := dk_89 (dk_at dksJ5_of_0 17 rfl rfl)
theorem dJ5_of_18 : decode cJ5_of 18 = .ok (.iconst 3, 1) := dk_6 (dk_at dksJ5_of_0 18 rfl rfl)
theorem dJ5_of_19 : decode cJ5_of 19 = .ok (.aload_n 3, 1) := dk_45 (dk_at dksJ5_of_0 19 rfl rfl)
theorem dJ5_of_20 : decode cJ5_of 20 = .ok (.aastore, 1) := dk_83 (dk_at dksJ5_of_0 20 rfl rfl)
theorem dJ5_of_21 : decode cJ5_of 21 = .ok (.dup, 1) := dk_89 (dk_at dksJ5_of_0 21 rfl rfl)
theorem dJ5_of_22 : decode cJ5_of 22 = .ok (.iconst 4, 1) := dk_7 (dk_at dksJ5_of_0 22 rfl rfl)
theorem dJ5_of_23 : decode cJ5_of 23 = .ok (.aload 4, 2) := dk_25 4 (dk_at dksJ5_of_1 0 rfl rfl)
theorem dJ5_of_25 : decode cJ5_of 25 = .ok (.aastore, 1) := dk_83 (dk_at dksJ5_of_1 2 rfl rfl)
theorem dJ5_of_26 : decode cJ5_of 26 = .ok (.dup, 1) := dk_89 (dk_at dksJ5_of_1 3 rfl rfl)
theorem dJ5_of_27 : decode cJ5_of 27 = .ok (.iconst 5, 1) := dk_8 (dk_at dksJ5_of_1 4 rfl rfl)
theorem dJ5_of_28 : decode cJ5_of 28 = .ok (.aload 5, 2) := dk_25 5 (dk_at dksJ5_of_1 5 rfl rfl)
theorem dJ5_of_30 : decode cJ5_of 30 = .ok (.aastore, 1) := dk_83 (dk_at dksJ5_of_1 7 rfl rfl)
theorem dJ5_of_31 : decode cJ5_of 31 = .ok (.dup, 1) := dk_89 (dk_at dksJ5_of_1 8 rfl rfl)
theorem dJ5_of_32 : decode cJ5_of 32 = .ok (.bipush 6, 2) := dk_16 6 (dk_at dksJ5_of_1 9 rfl rfl)
theorem dJ5_of_34 : decode cJ5_of 34 = .ok (.aload 6, 2) := dk_25 6 (dk_at dksJ5_of_1 11 rfl rfl)
theorem dJ5_of_36 : decode cJ5_of 36 = .ok (.aastore, 1) := dk_83 (dk_at dksJ5_of_1 13 rfl rfl)
theorem dJ5_of_37 : decode cJ5_of 37 = .ok (.dup, 1) := dk_89 (dk_at dksJ5_of_1 14 rfl rfl)
theorem dJ5_of_38 : decode cJ5_of 38 = .ok (.bipush 7, 2) := dk_16 7 (dk_at dksJ5_of_1 15 rfl rfl)
theorem dJ5_of_40 : decode cJ5_of 40 = .ok (.aload 7, 2) := dk_25 7 (dk_at dksJ5_of_1 17 rfl rfl)
theorem dJ5_of_42 : decode cJ5_of 42 = .ok (.aastore, 1) := dk_83 (dk_at dksJ5_of_1 19 rfl rfl)
theorem dJ5_of_43 : decode cJ5_of 43 = .ok (.invokestatic 105, 3) := dk_184 0 105 (dk_at dksJ5_of_1 20 rfl rfl)
theorem dJ5_of_46 : decode cJ5_of 46 = .ok (.areturn, 1) := dk_176 (dk_at dksJ5_of_1 23 rfl rfl)
theorem q126 : (Jvm.Cond.initialized "java/util/List") ∈ lw_all := lw_g (lw_at lw_m1 11 rfl) rfl
theorem q653 : (Jvm.Cond.static ({ cls := "java/util/List", name := "of", desc := "(Ljava/lang/Object;Ljava/lang/Object;Ljava/lang/Object;Ljava/lang/Object;Ljava/lang/Object;Ljava/lang/Object;Ljava/lang/Object;Ljava/lang/Object;)Ljava/util/List;" } : Jvm.MethodName)) ∈ lw_all := lw_g (lw_at lw_m3 58 rfl) rfl
theorem q654 : (Jvm.Cond.code ({ cls := "java/util/List", name := "of", desc := "(Ljava/lang/Object;Ljava/lang/Object;Ljava/lang/Object;Ljava/lang/Object;Ljava/lang/Object;Ljava/lang/Object;Ljava/lang/Object;Ljava/lang/Object;)Ljava/util/List;" } : Jvm.MethodName) prog_62_method_44_code (8 : Nat) (Option.some (Jvm.ClassFile.FieldType.object "java/util/List"))) ∈ lw_all := lw_g (lw_at lw_m3 59 rfl) rfl
theorem q655 : (Jvm.Cond.classLink "java/util/List" (103 : Nat) "java/lang/Object") ∈ lw_all := lw_g (lw_at lw_m3 60 rfl) rfl
theorem q656 : (Jvm.Cond.methodLink "java/util/List" (105 : Nat) ({ cls := "java/util/ImmutableCollections", name := "listFromTrustedArray", desc := "([Ljava/lang/Object;)Ljava/util/List;" } : Jvm.MethodName)) ∈ lw_all := lw_g (lw_at lw_m3 61 rfl) rfl
theorem q1166 : (Jvm.Cond.interfaceMethod "java/util/List" "java/util/List" "contains" "(Ljava/lang/Object;)Z") ∈ lw_tbl := lw_at lw_m5 91 rfl
theorem q1167 : (Jvm.Cond.declares ({ cls := "java/util/List", name := "contains", desc := "(Ljava/lang/Object;)Z" } : Jvm.MethodName)) ∈ lw_tbl := lw_at lw_m5 92 rfl
theorem q1175 : (Jvm.Cond.declares ({ cls := "java/util/List", name := "indexOf", desc := "(Ljava/lang/Object;)I" } : Jvm.MethodName)) ∈ lw_tbl := lw_at lw_m5 100 rfl
/-! java/util/ImmutableCollections -/
set_option maxRecDepth 100000
def RJ6 : String := "java/util/ImmutableCollections"
abbrev cJ6_listFromTrustedArray : ByteArray := prog_53_method_5_code
def yJ6_listFromTrustedArray : MethodName := ⟨RJ6, "listFromTrustedArray", "([Ljava/lang/Object;)Ljava/util/List;"⟩
def dkwJ6_listFromTrustedArray_5 : List UInt8 := [3, 50, 42, 4, 50, 183, 0, 67, 167, 0, 12, 187, 0, 12, 89, 42, 3, 183, 0, 43, 176]
abbrev dktJ6_listFromTrustedArray_5 : List UInt8 := dkwJ6_listFromTrustedArray_5 ++ []
def dkwJ6_listFromTrustedArray_4 : List UInt8 := [178, 0, 60, 167, 0, 41, 187, 0, 10, 89, 42, 3, 50, 183, 0, 64, 167, 0, 28, 187, 0, 10, 89, 42]
abbrev dktJ6_listFromTrustedArray_4 : List UInt8 := dkwJ6_listFromTrustedArray_4 ++ dktJ6_listFromTrustedArray_5
def dkwJ6_listFromTrustedArray_3 : List UInt8 := [170, 0, 0, 0, 0, 61, 0, 0, 0, 0, 0, 0, 0, 2, 0, 0, 0, 26, 0, 0, 0, 32, 0, 0, 0, 45]
abbrev dktJ6_listFromTrustedArray_3 : List UInt8 := dkwJ6_listFromTrustedArray_3 ++ dktJ6_listFromTrustedArray_4
def dkwJ6_listFromTrustedArray_2 : List UInt8 := [132, 3, 1, 167, 255, 237, 42, 190]
abbrev dktJ6_listFromTrustedArray_2 : List UInt8 := dkwJ6_listFromTrustedArray_2 ++ dktJ6_listFromTrustedArray_3
def dkwJ6_listFromTrustedArray_1 : List UInt8 := [76, 43, 190, 61, 3, 62, 29, 28, 162, 0, 20, 43, 29, 50, 58, 4, 25, 4, 184, 0, 37, 87]
abbrev dktJ6_listFromTrustedArray_1 : List UInt8 := dkwJ6_listFromTrustedArray_1 ++ dktJ6_listFromTrustedArray_2
def dkwJ6_listFromTrustedArray_0 : List UInt8 := [178, 0, 46, 154, 0, 20, 42, 182, 0, 51, 18, 55, 165, 0, 11, 187, 0, 57, 89, 183, 0, 59, 191, 42]
abbrev dktJ6_listFromTrustedArray_0 : List UInt8 := dkwJ6_listFromTrustedArray_0 ++ dktJ6_listFromTrustedArray_1
theorem dksJ6_listFromTrustedArray_0 : cJ6_listFromTrustedArray.data.toList.drop 0 = dktJ6_listFromTrustedArray_0 := by decide +kernel
theorem dksJ6_listFromTrustedArray_1 : cJ6_listFromTrustedArray.data.toList.drop 24 = dktJ6_listFromTrustedArray_1 := dk_seg dksJ6_listFromTrustedArray_0 24 rfl rfl
theorem dksJ6_listFromTrustedArray_2 : cJ6_listFromTrustedArray.data.toList.drop 46 = dktJ6_listFromTrustedArray_2 := dk_seg dksJ6_listFromTrustedArray_1 22 rfl rfl
theorem dksJ6_listFromTrustedArray_3 : cJ6_listFromTrustedArray.data.toList.drop 54 = dktJ6_listFromTrustedArray_3 := dk_seg dksJ6_listFromTrustedArray_2 8 rfl rfl
theorem dksJ6_listFromTrustedArray_4 : cJ6_listFromTrustedArray.data.toList.drop 80 = dktJ6_listFromTrustedArray_4 := dk_seg dksJ6_listFromTrustedArray_3 26 rfl rfl
theorem dksJ6_listFromTrustedArray_5 : cJ6_listFromTrustedArray.data.toList.drop 104 = dktJ6_listFromTrustedArray_5 := dk_seg dksJ6_listFromTrustedArray_4 24 rfl rfl
theorem dJ6_listFromTrustedArray_0 : decode cJ6_listFromTrustedArray 0 = .ok (.getstatic 46, 3) := dk_178 0 46 (dk_at dksJ6_listFromTrustedArray_0 0 rfl rfl)
theorem dJ6_listFromTrustedArray_3 : decode cJ6_listFromTrustedArray 3 = .ok (.ifCond .ne 20, 3) := dk_154 0 20 (dk_at dksJ6_listFromTrustedArray_0 3 rfl rfl)
theorem dJ6_listFromTrustedArray_6 : decode cJ6_listFromTrustedArray 6 = .ok (.aload_n 0, 1) := dk_42 (dk_at dksJ6_listFromTrustedArray_0 6 rfl rfl)
theorem dJ6_listFromTrustedArray_7 : decode cJ6_listFromTrustedArray 7 = .ok (.invokevirtual 51, 3) := dk_182 0 51 (dk_at dksJ6_listFromTrustedArray_0 7 rfl rfl)
theorem dJ6_listFromTrustedArray_10 : decode cJ6_listFromTrustedArray 10 = .ok (.ldc 55, 2) := dk_18 55 (dk_at dksJ6_listFromTrustedArray_0 10 rfl rfl)
theorem dJ6_listFromTrustedArray_12 : decode cJ6_listFromTrustedArray 12 = .ok (.if_acmp .eq 11, 3) := dk_165 0 11 (dk_at dksJ6_listFromTrustedArray_0 12 rfl rfl)
theorem dJ6_listFromTrustedArray_15 : decode cJ6_listFromTrustedArray 15 = .ok (.new 57, 3) := dk_187 0 57 (dk_at dksJ6_listFromTrustedArray_0 15 rfl rfl)
theorem dJ6_listFromTrustedArray_18 : decode cJ6_listFromTrustedArray 18 = .ok (.dup, 1) := dk_89 (dk_at dksJ6_listFromTrustedArray_0 18 rfl rfl)
theorem dJ6_listFromTrustedArray_19 : decode cJ6_listFromTrustedArray 19 = .ok (.invokespecial 59, 3) := dk_183 0 59 (dk_at dksJ6_listFromTrustedArray_0 19 rfl rfl)
theorem dJ6_listFromTrustedArray_22 : decode cJ6_listFromTrustedArray 22 = .ok (.athrow, 1) := dk_191 (dk_at dksJ6_listFromTrustedArray_0 22 rfl rfl)
theorem dJ6_listFromTrustedArray_23 : decode cJ6_listFromTrustedArray 23 = .ok (.aload_n 0, 1) := dk_42 (dk_at dksJ6_listFromTrustedArray_0 23 rfl rfl)
theorem dJ6_listFromTrustedArray_24 : decode cJ6_listFromTrustedArray 24 = .ok (.astore_n 1, 1) := dk_76 (dk_at dksJ6_listFromTrustedArray_1 0 rfl rfl)
theorem dJ6_listFromTrustedArray_25 : decode cJ6_listFromTrustedArray 25 = .ok (.aload_n 1, 1) := dk_43 (dk_at dksJ6_listFromTrustedArray_1 1 rfl rfl)
theorem dJ6_listFromTrustedArray_26 : decode cJ6_listFromTrustedArray 26 = .ok (.arraylength, 1) := dk_190 (dk_at dksJ6_listFromTrustedArray_1 2 rfl rfl)
theorem dJ6_listFromTrustedArray_27 : decode cJ6_listFromTrustedArray 27 = .ok (.istore_n 2, 1) := dk_61 (dk_at dksJ6_listFromTrustedArray_1 3 rfl rfl)
theorem dJ6_listFromTrustedArray_28 : decode cJ6_listFromTrustedArray 28 = .ok (.iconst 0, 1) := dk_3 (dk_at dksJ6_listFromTrustedArray_1 4 rfl rfl)
theorem dJ6_listFromTrustedArray_29 : decode cJ6_listFromTrustedArray 29 = .ok (.istore_n 3, 1) := dk_62 (dk_at dksJ6_listFromTrustedArray_1 5 rfl rfl)
theorem dJ6_listFromTrustedArray_30 : decode cJ6_listFromTrustedArray 30 = .ok (.iload_n 3, 1) := dk_29 (dk_at dksJ6_listFromTrustedArray_1 6 rfl rfl)
theorem dJ6_listFromTrustedArray_31 : decode cJ6_listFromTrustedArray 31 = .ok (.iload_n 2, 1) := dk_28 (dk_at dksJ6_listFromTrustedArray_1 7 rfl rfl)
theorem dJ6_listFromTrustedArray_32 : decode cJ6_listFromTrustedArray 32 = .ok (.if_icmp .ge 20, 3) := dk_162 0 20 (dk_at dksJ6_listFromTrustedArray_1 8 rfl rfl)
theorem dJ6_listFromTrustedArray_35 : decode cJ6_listFromTrustedArray 35 = .ok (.aload_n 1, 1) := dk_43 (dk_at dksJ6_listFromTrustedArray_1 11 rfl rfl)
theorem dJ6_listFromTrustedArray_36 : decode cJ6_listFromTrustedArray 36 = .ok (.iload_n 3, 1) := dk_29 (dk_at dksJ6_listFromTrustedArray_1 12 rfl rfl)
theorem dJ6_listFromTrustedArray_37 : decode cJ6_listFromTrustedArray 37 = .ok (.aaload, 1) := dk_50 (dk_at dksJ6_listFromTrustedArray_1 13 rfl rfl)
theorem dJ6_listFromTrustedArray_38 : decode cJ6_listFromTrustedArray 38 = .ok (.astore 4, 2) := dk_58 4 (dk_at dksJ6_listFromTrustedArray_1 14 rfl rfl)
theorem dJ6_listFromTrustedArray_40 : decode cJ6_listFromTrustedArray 40 = .ok (.aload 4, 2) := dk_25 4 (dk_at dksJ6_listFromTrustedArray_1 16 rfl rfl)
theorem dJ6_listFromTrustedArray_42 : decode cJ6_listFromTrustedArray 42 = .ok (.invokestatic 37, 3) := dk_184 0 37 (dk_at dksJ6_listFromTrustedArray_1 18 rfl rfl)
theorem dJ6_listFromTrustedArray_45 : decode cJ6_listFromTrustedArray 45 = .ok (.pop, 1) := dk_87 (dk_at dksJ6_listFromTrustedArray_1 21 rfl rfl)
theorem dJ6_listFromTrustedArray_46 : decode cJ6_listFromTrustedArray 46 = .ok (.iinc 3 1, 3) := dk_132 3 1 (dk_at dksJ6_listFromTrustedArray_2 0 rfl rfl)
theorem dJ6_listFromTrustedArray_49 : decode cJ6_listFromTrustedArray 49 = .ok (.goto (-19), 3) := dk_167 255 237 (dk_at dksJ6_listFromTrustedArray_2 3 rfl rfl)
theorem dJ6_listFromTrustedArray_52 : decode cJ6_listFromTrustedArray 52 = .ok (.aload_n 0, 1) := dk_42 (dk_at dksJ6_listFromTrustedArray_2 6 rfl rfl)
theorem dJ6_listFromTrustedArray_53 : decode cJ6_listFromTrustedArray 53 = .ok (.arraylength, 1) := dk_190 (dk_at dksJ6_listFromTrustedArray_2 7 rfl rfl)
theorem dJ6_listFromTrustedArray_54 : decode cJ6_listFromTrustedArray 54 = .ok (.tableswitch 61 0 2 #[26, 32, 45], 26) := by decide +kernel
theorem dJ6_listFromTrustedArray_80 : decode cJ6_listFromTrustedArray 80 = .ok (.getstatic 60, 3) := dk_178 0 60 (dk_at dksJ6_listFromTrustedArray_4 0 rfl rfl)
theorem dJ6_listFromTrustedArray_83 : decode cJ6_listFromTrustedArray 83 = .ok (.goto 41, 3) := dk_167 0 41 (dk_at dksJ6_listFromTrustedArray_4 3 rfl rfl)
theorem dJ6_listFromTrustedArray_86 : decode cJ6_listFromTrustedArray 86 = .ok (.new 10, 3) := dk_187 0 10 (dk_at dksJ6_listFromTrustedArray_4 6 rfl rfl)
theorem dJ6_listFromTrustedArray_89 : decode cJ6_listFromTrustedArray 89 = .ok (.dup, 1) := dk_89 (dk_at dksJ6_listFromTrustedArray_4 9 rfl rfl)
theorem dJ6_listFromTrustedArray_90 : decode cJ6_listFromTrustedArray 90 = .ok (.aload_n 0, 1) := dk_42 (dk_at dksJ6_listFromTrustedArray_4 10 rfl rfl)
theorem dJ6_listFromTrustedArray_91 : decode cJ6_listFromTrustedArray 91 = .ok (.iconst 0, 1) := dk_3 (dk_at dksJ6_listFromTrustedArray_4 11 rfl rfl)
theorem dJ6_listFromTrustedArray_92 : decode cJ6_listFromTrustedArray 92 = .ok (.aaload, 1) := dk_50 (dk_at dksJ6_listFromTrustedArray_4 12 rfl rfl)
theorem dJ6_listFromTrustedArray_93 : decode cJ6_listFromTrustedArray 93 = .ok (.invokespecial 64, 3) := dk_183 0 64 (dk_at dksJ6_listFromTrustedArray_4 13 rfl rfl)
theorem dJ6_listFromTrustedArray_96 : decode cJ6_listFromTrustedArray 96 = .ok (.goto 28, 3) := dk_167 0 28 (dk_at dksJ6_listFromTrustedArray_4 16 rfl rfl)
theorem dJ6_listFromTrustedArray_99 : decode cJ6_listFromTrustedArray 99 = .ok (.new 10, 3) := dk_187 0 10 (dk_at dksJ6_listFromTrustedArray_4 19 rfl rfl)
theorem dJ6_listFromTrustedArray_102 : decode cJ6_listFromTrustedArray 102 = .ok (.dup, 1) := dk_89 (dk_at dksJ6_listFromTrustedArray_4 22 rfl rfl)
theorem dJ6_listFromTrustedArray_103 : decode cJ6_listFromTrustedArray 103 = .ok (.aload_n 0, 1) := dk_42 (dk_at dksJ6_listFromTrustedArray_4 23 rfl rfl)
theorem dJ6_listFromTrustedArray_104 : decode cJ6_listFromTrustedArray 104 = .ok (.iconst 0, 1) := dk_3 (dk_at dksJ6_listFromTrustedArray_5 0 rfl rfl)
theorem dJ6_listFromTrustedArray_105 : decode cJ6_listFromTrustedArray 105 = .ok (.aaload, 1) := dk_50 (dk_at dksJ6_listFromTrustedArray_5 1 rfl rfl)
theorem dJ6_listFromTrustedArray_106 : decode cJ6_listFromTrustedArray 106 = .ok (.aload_n 0, 1) := dk_42 (dk_at dksJ6_listFromTrustedArray_5 2 rfl rfl)
theorem dJ6_listFromTrustedArray_107 : decode cJ6_listFromTrustedArray 107 = .ok (.iconst 1, 1) := dk_4 (dk_at dksJ6_listFromTrustedArray_5 3 rfl rfl)
theorem dJ6_listFromTrustedArray_108 : decode cJ6_listFromTrustedArray 108 = .ok (.aaload, 1) := dk_50 (dk_at dksJ6_listFromTrustedArray_5 4 rfl rfl)
theorem dJ6_listFromTrustedArray_109 : decode cJ6_listFromTrustedArray 109 = .ok (.invokespecial 67, 3) := dk_183 0 67 (dk_at dksJ6_listFromTrustedArray_5 5 rfl rfl)
theorem dJ6_listFromTrustedArray_112 : decode cJ6_listFromTrustedArray 112 = .ok (.goto 12, 3) := dk_167 0 12 (dk_at dksJ6_listFromTrustedArray_5 8 rfl rfl)
theorem dJ6_listFromTrustedArray_115 : decode cJ6_listFromTrustedArray 115 = .ok (.new 12, 3) := dk_187 0 12 (dk_at dksJ6_listFromTrustedArray_5 11 rfl rfl)
theorem dJ6_listFromTrustedArray_118 : decode cJ6_listFromTrustedArray 118 = .ok (.dup, 1) := dk_89 (dk_at dksJ6_listFromTrustedArray_5 14 rfl rfl)
theorem dJ6_listFromTrustedArray_119 : decode cJ6_listFromTrustedArray 119 = .ok (.aload_n 0, 1) := dk_42 (dk_at dksJ6_listFromTrustedArray_5 15 rfl rfl)
theorem dJ6_listFromTrustedArray_120 : decode cJ6_listFromTrustedArray 120 = .ok (.iconst 0, 1) := dk_3 (dk_at dksJ6_listFromTrustedArray_5 16 rfl rfl)
theorem dJ6_listFromTrustedArray_121 : decode cJ6_listFromTrustedArray 121 = .ok (.invokespecial 43, 3) := dk_183 0 43 (dk_at dksJ6_listFromTrustedArray_5 17 rfl rfl)
theorem dJ6_listFromTrustedArray_124 : decode cJ6_listFromTrustedArray 124 = .ok (.areturn, 1) := dk_176 (dk_at dksJ6_listFromTrustedArray_5 20 rfl rfl)
theorem q127 : (Jvm.Cond.initialized "java/util/ImmutableCollections") ∈ lw_all := lw_g (lw_at lw_m1 12 rfl) rfl
theorem q657 : (Jvm.Cond.static ({ cls := "java/util/ImmutableCollections", name := "listFromTrustedArray", desc := "([Ljava/lang/Object;)Ljava/util/List;" } : Jvm.MethodName)) ∈ lw_all := lw_g (lw_at lw_m3 62 rfl) rfl
theorem q658 : (Jvm.Cond.code ({ cls := "java/util/ImmutableCollections", name := "listFromTrustedArray", desc := "([Ljava/lang/Object;)Ljava/util/List;" } : Jvm.MethodName) prog_53_method_5_code (5 : Nat) (Option.some (Jvm.ClassFile.FieldType.object "java/util/List"))) ∈ lw_all := lw_g (lw_at lw_m3 63 rfl) rfl
theorem q659 : (Jvm.Cond.fieldLink "java/util/ImmutableCollections" (46 : Nat) "java/util/ImmutableCollections" "$assertionsDisabled" "Z") ∈ lw_all := lw_g (lw_at lw_m3 64 rfl) rfl
theorem q660 : (Jvm.Cond.laysStatic "java/util/ImmutableCollections" "$assertionsDisabled" "Z") ∈ lw_tbl := lw_at lw_m3 65 rfl
theorem q661 : (Jvm.Cond.methodLink "java/util/ImmutableCollections" (51 : Nat) ({ cls := "java/lang/Object", name := "getClass", desc := "()Ljava/lang/Class;" } : Jvm.MethodName)) ∈ lw_all := lw_g (lw_at lw_m3 66 rfl) rfl
theorem q694 : (Jvm.Cond.classLink "java/util/ImmutableCollections" (55 : Nat) "[Ljava/lang/Object;") ∈ lw_all := lw_g (lw_at lw_m3 99 rfl) rfl
theorem q695 : (Jvm.Cond.methodLink "java/util/ImmutableCollections" (37 : Nat) ({ cls := "java/util/Objects", name := "requireNonNull", desc := "(Ljava/lang/Object;)Ljava/lang/Object;" } : Jvm.MethodName)) ∈ lw_all := lw_g (lw_at lw_m3 100 rfl) rfl
theorem q698 : (Jvm.Cond.fieldLink "java/util/ImmutableCollections" (60 : Nat) "java/util/ImmutableCollections" "EMPTY_LIST" "Ljava/util/ImmutableCollections$ListN;") ∈ lw_all := lw_g (lw_at lw_m3 103 rfl) rfl
theorem q699 : (Jvm.Cond.laysStatic "java/util/ImmutableCollections" "EMPTY_LIST" "Ljava/util/ImmutableCollections$ListN;") ∈ lw_tbl := lw_at lw_m3 104 rfl
theorem q700 : (Jvm.Cond.classLink "java/util/ImmutableCollections" (10 : Nat) "java/util/ImmutableCollections$List12") ∈ lw_all := lw_g (lw_at lw_m3 105 rfl) rfl
theorem q702 : (Jvm.Cond.methodLink "java/util/ImmutableCollections" (64 : Nat) ({ cls := "java/util/ImmutableCollections$List12", name := "<init>", desc := "(Ljava/lang/Object;)V" } : Jvm.MethodName)) ∈ lw_all := lw_g (lw_at lw_m3 107 rfl) rfl
theorem q714 : (Jvm.Cond.laysStatic "java/util/ImmutableCollections" "EMPTY" "Ljava/lang/Object;") ∈ lw_tbl := lw_at lw_m3 119 rfl
theorem q722 : (Jvm.Cond.methodLink "java/util/ImmutableCollections" (67 : Nat) ({ cls := "java/util/ImmutableCollections$List12", name := "<init>", desc := "(Ljava/lang/Object;Ljava/lang/Object;)V" } : Jvm.MethodName)) ∈ lw_all := lw_g (lw_at lw_m3 127 rfl) rfl
theorem q725 : (Jvm.Cond.classLink "java/util/ImmutableCollections" (12 : Nat) "java/util/ImmutableCollections$ListN") ∈ lw_all := lw_g (lw_at lw_m3 130 rfl) rfl
theorem q727 : (Jvm.Cond.methodLinkNest "java/util/ImmutableCollections" (43 : Nat) ({ cls := "java/util/ImmutableCollections$ListN", name := "<init>", desc := "([Ljava/lang/Object;Z)V" } : Jvm.MethodName) "java/util/ImmutableCollections") ∈ lw_tbl := lw_at lw_m3 132 rfl
/-! java/util/Objects -/
set_option maxRecDepth 100000
def RJ7 : String := "java/util/Objects"
abbrev cJ7_requireNonNull : ByteArray := prog_65_method_10_code
def yJ7_requireNonNull : MethodName := ⟨RJ7, "requireNonNull", "(Ljava/lang/Object;)Ljava/lang/Object;"⟩
def dkwJ7_requireNonNull_0 : List UInt8 := [42, 199, 0, 11, 187, 0, 84, 89, 183, 0, 86, 191, 42, 176]
abbrev dktJ7_requireNonNull_0 : List UInt8 := dkwJ7_requireNonNull_0 ++ []
theorem dksJ7_requireNonNull_0 : cJ7_requireNonNull.data.toList.drop 0 = dktJ7_requireNonNull_0 := by decide +kernel
theorem dJ7_requireNonNull_0 : decode cJ7_requireNonNull 0 = .ok (.aload_n 0, 1) := dk_42 (dk_at dksJ7_requireNonNull_0 0 rfl rfl)
theorem dJ7_requireNonNull_1 : decode cJ7_requireNonNull 1 = .ok (.ifnonnull 11, 3) := dk_199 0 11 (dk_at dksJ7_requireNonNull_0 1 rfl rfl)
theorem dJ7_requireNonNull_4 : decode cJ7_requireNonNull 4 = .ok (.new 84, 3) := dk_187 0 84 (dk_at dksJ7_requireNonNull_0 4 rfl rfl)
theorem dJ7_requireNonNull_7 : decode cJ7_requireNonNull 7 = .ok (.dup, 1) := dk_89 (dk_at dksJ7_requireNonNull_0 7 rfl rfl)
theorem dJ7_requireNonNull_8 : decode cJ7_requireNonNull 8 = .ok (.invokespecial 86, 3) := dk_183 0 86 (dk_at dksJ7_requireNonNull_0 8 rfl rfl)
theorem dJ7_requireNonNull_11 : decode cJ7_requireNonNull 11 = .ok (.athrow, 1) := dk_191 (dk_at dksJ7_requireNonNull_0 11 rfl rfl)
theorem dJ7_requireNonNull_12 : decode cJ7_requireNonNull 12 = .ok (.aload_n 0, 1) := dk_42 (dk_at dksJ7_requireNonNull_0 12 rfl rfl)
theorem dJ7_requireNonNull_13 : decode cJ7_requireNonNull 13 = .ok (.areturn, 1) := dk_176 (dk_at dksJ7_requireNonNull_0 13 rfl rfl)
abbrev cJ7_equals : ByteArray := prog_65_method_2_code
def yJ7_equals : MethodName := ⟨RJ7, "equals", "(Ljava/lang/Object;Ljava/lang/Object;)Z"⟩
def dkwJ7_equals_0 : List UInt8 := [42, 43, 165, 0, 15, 42, 198, 0, 15, 42, 43, 182, 0, 14, 153, 0, 7, 4, 167, 0, 4, 3, 172]
abbrev dktJ7_equals_0 : List UInt8 := dkwJ7_equals_0 ++ []
theorem dksJ7_equals_0 : cJ7_equals.data.toList.drop 0 = dktJ7_equals_0 := by decide +kernel
theorem dJ7_equals_0 : decode cJ7_equals 0 = .ok (.aload_n 0, 1) := dk_42 (dk_at dksJ7_equals_0 0 rfl rfl)
theorem dJ7_equals_1 : decode cJ7_equals 1 = .ok (.aload_n 1, 1) := dk_43 (dk_at dksJ7_equals_0 1 rfl rfl)
theorem dJ7_equals_2 : decode cJ7_equals 2 = .ok (.if_acmp .eq 15, 3) := dk_165 0 15 (dk_at dksJ7_equals_0 2 rfl rfl)
theorem dJ7_equals_5 : decode cJ7_equals 5 = .ok (.aload_n 0, 1) := dk_42 (dk_at dksJ7_equals_0 5 rfl rfl)
theorem dJ7_equals_6 : decode cJ7_equals 6 = .ok (.ifnull 15, 3) := dk_198 0 15 (dk_at dksJ7_equals_0 6 rfl rfl)
theorem dJ7_equals_9 : decode cJ7_equals 9 = .ok (.aload_n 0, 1) := dk_42 (dk_at dksJ7_equals_0 9 rfl rfl)
theorem dJ7_equals_10 : decode cJ7_equals 10 = .ok (.aload_n 1, 1) := dk_43 (dk_at dksJ7_equals_0 10 rfl rfl)
theorem dJ7_equals_11 : decode cJ7_equals 11 = .ok (.invokevirtual 14, 3) := dk_182 0 14 (dk_at dksJ7_equals_0 11 rfl rfl)
theorem dJ7_equals_14 : decode cJ7_equals 14 = .ok (.ifCond .eq 7, 3) := dk_153 0 7 (dk_at dksJ7_equals_0 14 rfl rfl)
theorem dJ7_equals_17 : decode cJ7_equals 17 = .ok (.iconst 1, 1) := dk_4 (dk_at dksJ7_equals_0 17 rfl rfl)
theorem dJ7_equals_18 : decode cJ7_equals 18 = .ok (.goto 4, 3) := dk_167 0 4 (dk_at dksJ7_equals_0 18 rfl rfl)
theorem dJ7_equals_21 : decode cJ7_equals 21 = .ok (.iconst 0, 1) := dk_3 (dk_at dksJ7_equals_0 21 rfl rfl)
theorem dJ7_equals_22 : decode cJ7_equals 22 = .ok (.ireturn, 1) := dk_172 (dk_at dksJ7_equals_0 22 rfl rfl)
theorem q128 : (Jvm.Cond.initialized "java/util/Objects") ∈ lw_all := lw_g (lw_at lw_m1 13 rfl) rfl
theorem q696 : (Jvm.Cond.static ({ cls := "java/util/Objects", name := "requireNonNull", desc := "(Ljava/lang/Object;)Ljava/lang/Object;" } : Jvm.MethodName)) ∈ lw_all := lw_g (lw_at lw_m3 101 rfl) rfl
theorem q697 : (Jvm.Cond.code ({ cls := "java/util/Objects", name := "requireNonNull", desc := "(Ljava/lang/Object;)Ljava/lang/Object;" } : Jvm.MethodName) prog_65_method_10_code (1 : Nat) (Option.some (Jvm.ClassFile.FieldType.object "java/lang/Object"))) ∈ lw_all := lw_g (lw_at lw_m3 102 rfl) rfl
theorem q1214 : (Jvm.Cond.static ({ cls := "java/util/Objects", name := "equals", desc := "(Ljava/lang/Object;Ljava/lang/Object;)Z" } : Jvm.MethodName)) ∈ lw_all := lw_g (lw_at lw_m5 139 rfl) rfl
theorem q1215 : (Jvm.Cond.code ({ cls := "java/util/Objects", name := "equals", desc := "(Ljava/lang/Object;Ljava/lang/Object;)Z" } : Jvm.MethodName) prog_65_method_2_code (2 : Nat) (Option.some Jvm.ClassFile.FieldType.boolean)) ∈ lw_all := lw_g (lw_at lw_m5 140 rfl) rfl
theorem q1216 : (Jvm.Cond.methodLink "java/util/Objects" (14 : Nat) ({ cls := "java/lang/Object", name := "equals", desc := "(Ljava/lang/Object;)Z" } : Jvm.MethodName)) ∈ lw_all := lw_g (lw_at lw_m5 141 rfl) rfl
/-! java/util/ImmutableCollections$AbstractImmutableCollection -/
set_option maxRecDepth 100000
def RJ8 : String := "java/util/ImmutableCollections$AbstractImmutableCollection"
abbrev cJ8_init : ByteArray := prog_54_method_1_code
def yJ8_init : MethodName := ⟨RJ8, "<init>", "()V"⟩
theorem dJ8_init_0 : decode cJ8_init 0 = .ok (.aload_n 0, 1) := by decide +kernel
theorem dJ8_init_1 : decode cJ8_init 1 = .ok (.invokespecial 1, 3) := by decide +kernel
theorem dJ8_init_4 : decode cJ8_init 4 = .ok (.return_, 1) := by decide +kernel
theorem q129 : (Jvm.Cond.initialized "java/util/ImmutableCollections$AbstractImmutableCollection") ∈ lw_all := lw_g (lw_at lw_m1 14 rfl) rfl
theorem q709 : (Jvm.Cond.instanceMethod ({ cls := "java/util/ImmutableCollections$AbstractImmutableCollection", name := "<init>", desc := "()V" } : Jvm.MethodName)) ∈ lw_all := lw_g (lw_at lw_m3 114 rfl) rfl
theorem q710 : (Jvm.Cond.code ({ cls := "java/util/ImmutableCollections$AbstractImmutableCollection", name := "<init>", desc := "()V" } : Jvm.MethodName) prog_54_method_1_code (1 : Nat) (Option.none : Option Jvm.ClassFile.FieldType)) ∈ lw_all := lw_g (lw_at lw_m3 115 rfl) rfl
theorem q711 : (Jvm.Cond.methodLink "java/util/ImmutableCollections$AbstractImmutableCollection" (1 : Nat) ({ cls := "java/util/AbstractCollection", name := "<init>", desc := "()V" } : Jvm.MethodName)) ∈ lw_all := lw_g (lw_at lw_m3 116 rfl) rfl
/-! java/util/ImmutableCollections$AbstractImmutableList -/
set_option maxRecDepth 100000
def RJ9 : String := "java/util/ImmutableCollections$AbstractImmutableList"
abbrev cJ9_init : ByteArray := prog_55_method_1_code
def yJ9_init : MethodName := ⟨RJ9, "<init>", "()V"⟩
theorem dJ9_init_0 : decode cJ9_init 0 = .ok (.aload_n 0, 1) := by decide +kernel
theorem dJ9_init_1 : decode cJ9_init 1 = .ok (.invokespecial 1, 3) := by decide +kernel
theorem dJ9_init_4 : decode cJ9_init 4 = .ok (.return_, 1) := by decide +kernel
abbrev cJ9_contains : ByteArray := prog_55_method_15_code
def yJ9_contains : MethodName := ⟨RJ9, "contains", "(Ljava/lang/Object;)Z"⟩
def dkwJ9_contains_0 : List UInt8 := [42, 43, 182, 0, 107, 155, 0, 7, 4, 167, 0, 4, 3, 172]
abbrev dktJ9_contains_0 : List UInt8 := dkwJ9_contains_0 ++ []
theorem dksJ9_contains_0 : cJ9_contains.data.toList.drop 0 = dktJ9_contains_0 := by decide +kernel
theorem dJ9_contains_0 : decode cJ9_contains 0 = .ok (.aload_n 0, 1) := dk_42 (dk_at dksJ9_contains_0 0 rfl rfl)
theorem dJ9_contains_1 : decode cJ9_contains 1 = .ok (.aload_n 1, 1) := dk_43 (dk_at dksJ9_contains_0 1 rfl rfl)
theorem dJ9_contains_2 : decode cJ9_contains 2 = .ok (.invokevirtual 107, 3) := dk_182 0 107 (dk_at dksJ9_contains_0 2 rfl rfl)
theorem dJ9_contains_5 : decode cJ9_contains 5 = .ok (.ifCond .lt 7, 3) := dk_155 0 7 (dk_at dksJ9_contains_0 5 rfl rfl)
theorem dJ9_contains_8 : decode cJ9_contains 8 = .ok (.iconst 1, 1) := dk_4 (dk_at dksJ9_contains_0 8 rfl rfl)
theorem dJ9_contains_9 : decode cJ9_contains 9 = .ok (.goto 4, 3) := dk_167 0 4 (dk_at dksJ9_contains_0 9 rfl rfl)
theorem dJ9_contains_12 : decode cJ9_contains 12 = .ok (.iconst 0, 1) := dk_3 (dk_at dksJ9_contains_0 12 rfl rfl)
theorem dJ9_contains_13 : decode cJ9_contains 13 = .ok (.ireturn, 1) := dk_172 (dk_at dksJ9_contains_0 13 rfl rfl)
theorem q130 : (Jvm.Cond.initialized "java/util/ImmutableCollections$AbstractImmutableList") ∈ lw_all := lw_g (lw_at lw_m1 15 rfl) rfl
theorem q706 : (Jvm.Cond.instanceMethod ({ cls := "java/util/ImmutableCollections$AbstractImmutableList", name := "<init>", desc := "()V" } : Jvm.MethodName)) ∈ lw_all := lw_g (lw_at lw_m3 111 rfl) rfl
theorem q707 : (Jvm.Cond.code ({ cls := "java/util/ImmutableCollections$AbstractImmutableList", name := "<init>", desc := "()V" } : Jvm.MethodName) prog_55_method_1_code (1 : Nat) (Option.none : Option Jvm.ClassFile.FieldType)) ∈ lw_all := lw_g (lw_at lw_m3 112 rfl) rfl
theorem q708 : (Jvm.Cond.methodLink "java/util/ImmutableCollections$AbstractImmutableList" (1 : Nat) ({ cls := "java/util/ImmutableCollections$AbstractImmutableCollection", name := "<init>", desc := "()V" } : Jvm.MethodName)) ∈ lw_all := lw_g (lw_at lw_m3 113 rfl) rfl
theorem q1171 : (Jvm.Cond.instanceMethod ({ cls := "java/util/ImmutableCollections$AbstractImmutableList", name := "contains", desc := "(Ljava/lang/Object;)Z" } : Jvm.MethodName)) ∈ lw_all := lw_g (lw_at lw_m5 96 rfl) rfl
theorem q1172 : (Jvm.Cond.publicMethod ({ cls := "java/util/ImmutableCollections$AbstractImmutableList", name := "contains", desc := "(Ljava/lang/Object;)Z" } : Jvm.MethodName)) ∈ lw_tbl := lw_at lw_m5 97 rfl
theorem q1173 : (Jvm.Cond.code ({ cls := "java/util/ImmutableCollections$AbstractImmutableList", name := "contains", desc := "(Ljava/lang/Object;)Z" } : Jvm.MethodName) prog_55_method_15_code (2 : Nat) (Option.some Jvm.ClassFile.FieldType.boolean)) ∈ lw_all := lw_g (lw_at lw_m5 98 rfl) rfl
theorem q1174 : (Jvm.Cond.superclass "java/util/ImmutableCollections$AbstractImmutableList" "java/util/ImmutableCollections$AbstractImmutableCollection") ∈ lw_all := lw_g (lw_at lw_m5 99 rfl) rfl
theorem q834 : (Jvm.Cond.sameMethod "[B" "java/lang/Object" "clone" "()Ljava/lang/Object;") ∈ lw_all := lw_g (lw_at lw_m3 239 rfl) rfl
set_option maxRecDepth 100000
theorem q837 : (Jvm.Cond.selects "[B" ({ cls := "[B", name := "clone", desc := "()Ljava/lang/Object;" } : Jvm.MethodName) ({ cls := "java/lang/Object", name := "clone", desc := "()Ljava/lang/Object;" } : Jvm.MethodName)) ∈ lw_all := lw_g (lw_at lw_m4 2 rfl) rfl
theorem q838 : (Jvm.Cond.castable "[B" "java/lang/Cloneable") ∈ lw_tbl := lw_at lw_m4 3 rfl
theorem q2885 : (Jvm.Cond.castable "[B" "java/lang/Object") ∈ lw_tbl := lw_at lw_m12 130 rfl
theorem q2889 : (Jvm.Cond.castable "[I" "java/lang/Object") ∈ lw_tbl := lw_at lw_m12 134 rfl
set_option maxRecDepth 100000
theorem q1711 : (Jvm.Cond.sameMethod "[J" "java/lang/Object" "clone" "()Ljava/lang/Object;") ∈ lw_all := lw_g (lw_at lw_m7 156 rfl) rfl
set_option maxRecDepth 100000
theorem q1712 : (Jvm.Cond.selects "[J" ({ cls := "[J", name := "clone", desc := "()Ljava/lang/Object;" } : Jvm.MethodName) ({ cls := "java/lang/Object", name := "clone", desc := "()Ljava/lang/Object;" } : Jvm.MethodName)) ∈ lw_all := lw_g (lw_at lw_m7 157 rfl) rfl
theorem q1713 : (Jvm.Cond.castable "[J" "java/lang/Cloneable") ∈ lw_tbl := lw_at lw_m7 158 rfl
theorem q2890 : (Jvm.Cond.castable "[J" "java/lang/Object") ∈ lw_tbl := lw_at lw_m12 135 rfl
theorem q2886 : (Jvm.Cond.castable "[LRepeatFree$Pattern;" "java/lang/Object") ∈ lw_tbl := lw_at lw_m12 131 rfl
set_option maxRecDepth 100000
theorem q2882 : (Jvm.Cond.sameMethod "[Ljava/lang/Object;" "java/lang/Object" "getClass" "()Ljava/lang/Class;") ∈ lw_all := lw_g (lw_at lw_m12 127 rfl) rfl
set_option maxRecDepth 100000
theorem q2883 : (Jvm.Cond.selects "[Ljava/lang/Object;" ({ cls := "java/lang/Object", name := "getClass", desc := "()Ljava/lang/Class;" } : Jvm.MethodName) ({ cls := "java/lang/Object", name := "getClass", desc := "()Ljava/lang/Class;" } : Jvm.MethodName)) ∈ lw_all := lw_g (lw_at lw_m12 128 rfl) rfl
theorem q2887 : (Jvm.Cond.castable "[Ljava/lang/Object;" "java/lang/Object") ∈ lw_tbl := lw_at lw_m12 132 rfl
theorem q2891 : (Jvm.Cond.castable "[Z" "java/lang/Object") ∈ lw_tbl := lw_at lw_m12 136 rfl
set_option maxRecDepth 100000
theorem q2888 : (Jvm.Cond.castable "[[B" "java/lang/Object") ∈ lw_tbl := lw_at lw_m12 133 rfl
set_option maxRecDepth 100000
theorem q167 : (Jvm.Cond.initialized "java/lang/Integer$IntegerCache") ∈ lw_all := lw_g (lw_at lw_m1 52 rfl) rfl
set_option maxRecDepth 100000
theorem q2040 : (Jvm.Cond.laysStatic "java/lang/Integer$IntegerCache" "high" "I") ∈ lw_tbl := lw_at lw_m9 5 rfl
theorem q2042 : (Jvm.Cond.laysStatic "java/lang/Integer$IntegerCache" "cache" "[Ljava/lang/Integer;") ∈ lw_tbl := lw_at lw_m9 7 rfl
theorem q140 : (Jvm.Cond.initialized "java/lang/System") ∈ lw_all := lw_g (lw_at lw_m1 25 rfl) rfl
set_option maxRecDepth 100000
theorem q558 : (Jvm.Cond.static ({ cls := "java/lang/System", name := "arraycopy", desc := "(Ljava/lang/Object;ILjava/lang/Object;II)V" } : Jvm.MethodName)) ∈ lw_all := lw_g (lw_at lw_m2 203 rfl) rfl
theorem q559 : (Jvm.Cond.native ({ cls := "java/lang/System", name := "arraycopy", desc := "(Ljava/lang/Object;ILjava/lang/Object;II)V" } : Jvm.MethodName)) ∈ lw_all := lw_g (lw_at lw_m2 204 rfl) rfl
theorem q155 : (Jvm.Cond.initialized "java/util/AbstractList$ListItr") ∈ lw_all := lw_g (lw_at lw_m1 40 rfl) rfl
set_option maxRecDepth 100000
theorem q683 : (Jvm.Cond.selects "java/util/AbstractList$ListItr" ({ cls := "java/lang/Object", name := "getClass", desc := "()Ljava/lang/Class;" } : Jvm.MethodName) ({ cls := "java/lang/Object", name := "getClass", desc := "()Ljava/lang/Class;" } : Jvm.MethodName)) ∈ lw_all := lw_g (lw_at lw_m3 88 rfl) rfl
theorem q1318 : (Jvm.Cond.castable "java/util/AbstractList$ListItr" "java/util/Iterator") ∈ lw_tbl := lw_at lw_m6 3 rfl
theorem q1319 : (Jvm.Cond.selects "java/util/AbstractList$ListItr" ({ cls := "java/util/Iterator", name := "hasNext", desc := "()Z" } : Jvm.MethodName) ({ cls := "java/util/AbstractList$Itr", name := "hasNext", desc := "()Z" } : Jvm.MethodName)) ∈ lw_all := lw_g (lw_at lw_m6 4 rfl) rfl
theorem q1320 : (Jvm.Cond.unhidden "java/util/AbstractList$ListItr" "hasNext" "()Z") ∈ lw_tbl := lw_at lw_m6 5 rfl
theorem q1338 : (Jvm.Cond.selects "java/util/AbstractList$ListItr" ({ cls := "java/util/Iterator", name := "next", desc := "()Ljava/lang/Object;" } : Jvm.MethodName) ({ cls := "java/util/AbstractList$Itr", name := "next", desc := "()Ljava/lang/Object;" } : Jvm.MethodName)) ∈ lw_all := lw_g (lw_at lw_m6 23 rfl) rfl
theorem q1339 : (Jvm.Cond.unhidden "java/util/AbstractList$ListItr" "next" "()Ljava/lang/Object;") ∈ lw_tbl := lw_at lw_m6 24 rfl
theorem q1346 : (Jvm.Cond.selects "java/util/AbstractList$ListItr" ({ cls := "java/util/AbstractList$Itr", name := "checkForComodification", desc := "()V" } : Jvm.MethodName) ({ cls := "java/util/AbstractList$Itr", name := "checkForComodification", desc := "()V" } : Jvm.MethodName)) ∈ lw_all := lw_g (lw_at lw_m6 31 rfl) rfl
theorem q1762 : (Jvm.Cond.selects "java/util/AbstractList$ListItr" ({ cls := "java/util/Iterator", name := "remove", desc := "()V" } : Jvm.MethodName) ({ cls := "java/util/AbstractList$Itr", name := "remove", desc := "()V" } : Jvm.MethodName)) ∈ lw_all := lw_g (lw_at lw_m7 207 rfl) rfl
theorem q1763 : (Jvm.Cond.unhidden "java/util/AbstractList$ListItr" "remove" "()V") ∈ lw_tbl := lw_at lw_m7 208 rfl
theorem q2870 : (Jvm.Cond.castable "java/util/AbstractList$ListItr" "java/lang/Object") ∈ lw_tbl := lw_at lw_m12 115 rfl
theorem q2894 : (Jvm.Cond.fieldLink "java/util/AbstractList$ListItr" (1 : Nat) "java/util/AbstractList$ListItr" "this$0" "Ljava/util/AbstractList;") ∈ lw_all := lw_g (lw_at lw_m12 139 rfl) rfl
theorem q2899 : (Jvm.Cond.fieldLink "java/util/AbstractList$ListItr" (13 : Nat) "java/util/AbstractList$ListItr" "cursor" "I") ∈ lw_all := lw_g (lw_at lw_m12 144 rfl) rfl
theorem q2900 : (Jvm.Cond.sameField "java/util/AbstractList$ListItr" "java/util/AbstractList$Itr" "cursor" "I") ∈ lw_all := lw_g (lw_at lw_m12 145 rfl) rfl
theorem q1316 : (Jvm.Cond.interfaceMethod "java/util/Iterator" "java/util/Iterator" "hasNext" "()Z") ∈ lw_tbl := lw_at lw_m6 1 rfl
set_option maxRecDepth 100000
theorem q1317 : (Jvm.Cond.declares ({ cls := "java/util/Iterator", name := "hasNext", desc := "()Z" } : Jvm.MethodName)) ∈ lw_tbl := lw_at lw_m6 2 rfl
theorem q1336 : (Jvm.Cond.interfaceMethod "java/util/Iterator" "java/util/Iterator" "next" "()Ljava/lang/Object;") ∈ lw_tbl := lw_at lw_m6 21 rfl
theorem q1337 : (Jvm.Cond.declares ({ cls := "java/util/Iterator", name := "next", desc := "()Ljava/lang/Object;" } : Jvm.MethodName)) ∈ lw_tbl := lw_at lw_m6 22 rfl
theorem q1760 : (Jvm.Cond.interfaceMethod "java/util/Iterator" "java/util/Iterator" "remove" "()V") ∈ lw_tbl := lw_at lw_m7 205 rfl
theorem q1761 : (Jvm.Cond.declares ({ cls := "java/util/Iterator", name := "remove", desc := "()V" } : Jvm.MethodName)) ∈ lw_tbl := lw_at lw_m7 206 rfl
theorem q1094 : (Jvm.Cond.interfaceMethod "jdk/internal/access/JavaLangAccess" "jdk/internal/access/JavaLangAccess" "getUTF16Char" "([BI)C") ∈ lw_tbl := lw_at lw_m5 19 rfl
set_option maxRecDepth 100000
theorem q1095 : (Jvm.Cond.declares ({ cls := "jdk/internal/access/JavaLangAccess", name := "getUTF16Char", desc := "([BI)C" } : Jvm.MethodName)) ∈ lw_tbl := lw_at lw_m5 20 rfl
theorem q215 : (Jvm.Cond.arrayClass Jvm.ClassFile.FieldType.byte) ∈ lw_all := lw_g (lw_at lw_m1 100 rfl) rfl
set_option maxRecDepth 100000
theorem q238 : (Jvm.Cond.arrayOver (Jvm.ClassFile.FieldType.object "RepeatFree$Pattern")) ∈ lw_tbl := lw_at lw_m1 123 rfl
theorem q263 : (Jvm.Cond.arrayOver (Jvm.ClassFile.FieldType.object "java/lang/Object")) ∈ lw_tbl := lw_at lw_m1 148 rfl
theorem q1442 : (Jvm.Cond.arrayOver (Jvm.ClassFile.FieldType.array Jvm.ClassFile.FieldType.byte)) ∈ lw_tbl := lw_at lw_m6 127 rfl
theorem q1513 : (Jvm.Cond.arrayClass Jvm.ClassFile.FieldType.int) ∈ lw_all := lw_g (lw_at lw_m6 198 rfl) rfl
theorem q1685 : (Jvm.Cond.arrayClass Jvm.ClassFile.FieldType.long) ∈ lw_all := lw_g (lw_at lw_m7 130 rfl) rfl
theorem q2359 : (Jvm.Cond.arrayClass Jvm.ClassFile.FieldType.boolean) ∈ lw_all := lw_g (lw_at lw_m10 84 rfl) rfl
theorem q2892 : (Jvm.Cond.arrayClass Jvm.ClassFile.FieldType.char) ∈ lw_all := lw_g (lw_at lw_m12 137 rfl) rfl
theorem q2893 : (Jvm.Cond.arrayClass Jvm.ClassFile.FieldType.short) ∈ lw_all := lw_g (lw_at lw_m12 138 rfl) rfl
