/-! New exceptions; all plain instructions together. -/
def zAt (w : Cond) : Prop := w ∈ lw_all ∨ (w ∈ zNw ∧ w.onTables = true)
theorem zEx120 (own : String) (ic : Nat) (hl : Cond.methodLink own ic ⟨"java/lang/IllegalArgumentException", "<init>", "()V"⟩ ∈ lw_all) : ∀ w, w ∈ vx_at0 own ic "java/lang/IllegalArgumentException" ["java/lang/RuntimeException", "java/lang/Exception"] → zAt w := by
  intro w hw
  obtain ⟨hw, hno⟩ := List.mem_filter.mp hw
  simp only [Bundle.ownAtoms0, Bundle.throwableAtoms, Bundle.chain0Atoms, Bundle.passAtoms, List.cons_append, List.nil_append, List.append_assoc, List.mem_cons, List.not_mem_nil, or_false] at hw
  rcases hw with rfl | rfl | rfl | rfl | rfl | rfl | rfl | rfl | rfl | rfl | rfl | rfl | rfl | rfl | rfl | rfl | rfl | rfl | rfl | rfl | rfl | rfl | rfl | rfl | rfl | rfl | rfl | rfl | rfl | rfl | rfl | rfl | rfl | rfl | rfl | rfl | rfl | rfl | rfl | rfl | rfl | rfl | rfl | rfl | rfl | rfl | rfl | rfl | rfl | rfl | rfl | rfl | rfl
  · exact Or.inl q143
  · exact Or.inl q370
  · exact Or.inl q379
  · exact Or.inl q387
  · exact Or.inl q390
  · exact Or.inl q392
  · exact Or.inl q371
  · exact Or.inl q372
  · exact Or.inl q174
  · exact Or.inl q175
  · exact Or.inl q373
  · exact Or.inl q378
  · exact Or.inl q388
  · exact Or.inl q405
  · exact Or.inl q360
  · exact Or.inl q406
  · exact Or.inl q362
  · exact Or.inl q407
  · exact Or.inl q364
  · exact Or.inl q374
  · exact absurd hno (by decide +kernel)
  · exact Or.inl q376
  · exact absurd hno (by decide +kernel)
  · exact Or.inl q366
  · exact Or.inl q1521
  · exact Or.inl q1522
  · exact Or.inl q1523
  · exact Or.inl q397
  · exact Or.inr ⟨nw q351 rfl, rfl⟩
  · exact Or.inl q397
  · exact Or.inl q398
  · exact Or.inl q399
  · exact Or.inl q400
  · exact Or.inr ⟨nw q353 rfl, rfl⟩
  · exact Or.inl q400
  · exact Or.inl q401
  · exact Or.inl q402
  · exact Or.inl q371
  · exact Or.inr ⟨nw q355 rfl, rfl⟩
  · exact Or.inl hl
  · exact Or.inl q912
  · exact Or.inr ⟨nw q913 rfl, rfl⟩
  · exact Or.inl q914
  · exact Or.inl q383
  · exact Or.inl q915
  · exact Or.inl q916
  · exact Or.inl q917
  · exact Or.inl q918
  · exact absurd hno (by decide +kernel)
  · exact absurd hno (by decide +kernel)
  · exact Or.inl q403
  · exact Or.inl q368
  · exact Or.inl q919
theorem zEx121 (own : String) (ic : Nat) (hl : Cond.methodLink own ic ⟨"java/lang/IllegalStateException", "<init>", "()V"⟩ ∈ lw_all) : ∀ w, w ∈ vx_at0 own ic "java/lang/IllegalStateException" ["java/lang/RuntimeException", "java/lang/Exception"] → zAt w := by
  intro w hw
  obtain ⟨hw, hno⟩ := List.mem_filter.mp hw
  simp only [Bundle.ownAtoms0, Bundle.throwableAtoms, Bundle.chain0Atoms, Bundle.passAtoms, List.cons_append, List.nil_append, List.append_assoc, List.mem_cons, List.not_mem_nil, or_false] at hw
  rcases hw with rfl | rfl | rfl | rfl | rfl | rfl | rfl | rfl | rfl | rfl | rfl | rfl | rfl | rfl | rfl | rfl | rfl | rfl | rfl | rfl | rfl | rfl | rfl | rfl | rfl | rfl | rfl | rfl | rfl | rfl | rfl | rfl | rfl | rfl | rfl | rfl | rfl | rfl | rfl | rfl | rfl | rfl | rfl | rfl | rfl | rfl | rfl | rfl | rfl | rfl | rfl | rfl | rfl
  · exact Or.inl q143
  · exact Or.inl q370
  · exact Or.inl q379
  · exact Or.inl q387
  · exact Or.inl q390
  · exact Or.inl q392
  · exact Or.inl q371
  · exact Or.inl q372
  · exact Or.inl q174
  · exact Or.inl q175
  · exact Or.inl q373
  · exact Or.inl q378
  · exact Or.inl q388
  · exact Or.inl q405
  · exact Or.inl q360
  · exact Or.inl q406
  · exact Or.inl q362
  · exact Or.inl q407
  · exact Or.inl q364
  · exact Or.inl q374
  · exact absurd hno (by decide +kernel)
  · exact Or.inl q376
  · exact absurd hno (by decide +kernel)
  · exact Or.inl q366
  · exact Or.inl q1625
  · exact Or.inl q1626
  · exact Or.inl q1627
  · exact Or.inl q397
  · exact Or.inr ⟨nw q351 rfl, rfl⟩
  · exact Or.inl q397
  · exact Or.inl q398
  · exact Or.inl q399
  · exact Or.inl q400
  · exact Or.inr ⟨nw q353 rfl, rfl⟩
  · exact Or.inl q400
  · exact Or.inl q401
  · exact Or.inl q402
  · exact Or.inl q371
  · exact Or.inr ⟨nw q355 rfl, rfl⟩
  · exact Or.inl hl
  · exact Or.inl q1571
  · exact Or.inr ⟨nw q1572 rfl, rfl⟩
  · exact Or.inl q1573
  · exact Or.inl q384
  · exact Or.inl q1574
  · exact Or.inl q1575
  · exact Or.inl q1576
  · exact Or.inl q1577
  · exact absurd hno (by decide +kernel)
  · exact absurd hno (by decide +kernel)
  · exact Or.inl q403
  · exact Or.inl q368
  · exact Or.inl q1578
theorem zEx122 (own : String) (ic : Nat) (hl : Cond.methodLink own ic ⟨"java/lang/IndexOutOfBoundsException", "<init>", "()V"⟩ ∈ lw_all) : ∀ w, w ∈ vx_at0 own ic "java/lang/IndexOutOfBoundsException" ["java/lang/RuntimeException", "java/lang/Exception"] → zAt w := by
  intro w hw
  obtain ⟨hw, hno⟩ := List.mem_filter.mp hw
  simp only [Bundle.ownAtoms0, Bundle.throwableAtoms, Bundle.chain0Atoms, Bundle.passAtoms, List.cons_append, List.nil_append, List.append_assoc, List.mem_cons, List.not_mem_nil, or_false] at hw
  rcases hw with rfl | rfl | rfl | rfl | rfl | rfl | rfl | rfl | rfl | rfl | rfl | rfl | rfl | rfl | rfl | rfl | rfl | rfl | rfl | rfl | rfl | rfl | rfl | rfl | rfl | rfl | rfl | rfl | rfl | rfl | rfl | rfl | rfl | rfl | rfl | rfl | rfl | rfl | rfl | rfl | rfl | rfl | rfl | rfl | rfl | rfl | rfl | rfl | rfl | rfl | rfl | rfl | rfl
  · exact Or.inl q143
  · exact Or.inl q370
  · exact Or.inl q379
  · exact Or.inl q387
  · exact Or.inl q390
  · exact Or.inl q392
  · exact Or.inl q371
  · exact Or.inl q372
  · exact Or.inl q174
  · exact Or.inl q175
  · exact Or.inl q373
  · exact Or.inl q378
  · exact Or.inl q388
  · exact Or.inl q405
  · exact Or.inl q360
  · exact Or.inl q406
  · exact Or.inl q362
  · exact Or.inl q407
  · exact Or.inl q364
  · exact Or.inl q374
  · exact absurd hno (by decide +kernel)
  · exact Or.inl q376
  · exact absurd hno (by decide +kernel)
  · exact Or.inl q366
  · exact Or.inl q1860
  · exact Or.inl q1861
  · exact Or.inl q1862
  · exact Or.inl q397
  · exact Or.inr ⟨nw q351 rfl, rfl⟩
  · exact Or.inl q397
  · exact Or.inl q398
  · exact Or.inl q399
  · exact Or.inl q400
  · exact Or.inr ⟨nw q353 rfl, rfl⟩
  · exact Or.inl q400
  · exact Or.inl q401
  · exact Or.inl q402
  · exact Or.inl q371
  · exact Or.inr ⟨nw q355 rfl, rfl⟩
  · exact Or.inl hl
  · exact Or.inl q1262
  · exact Or.inr ⟨nw q1263 rfl, rfl⟩
  · exact Or.inl q1264
  · exact Or.inl q385
  · exact Or.inl q1265
  · exact Or.inl q1266
  · exact Or.inl q1267
  · exact Or.inl q1268
  · exact absurd hno (by decide +kernel)
  · exact absurd hno (by decide +kernel)
  · exact Or.inl q403
  · exact Or.inl q368
  · exact Or.inl q1269
theorem zEx123 (own : String) (ic : Nat) (hl : Cond.methodLink own ic ⟨"java/util/NoSuchElementException", "<init>", "()V"⟩ ∈ lw_all) : ∀ w, w ∈ vx_at0 own ic "java/util/NoSuchElementException" ["java/lang/RuntimeException", "java/lang/Exception"] → zAt w := by
  intro w hw
  obtain ⟨hw, hno⟩ := List.mem_filter.mp hw
  simp only [Bundle.ownAtoms0, Bundle.throwableAtoms, Bundle.chain0Atoms, Bundle.passAtoms, List.cons_append, List.nil_append, List.append_assoc, List.mem_cons, List.not_mem_nil, or_false] at hw
  rcases hw with rfl | rfl | rfl | rfl | rfl | rfl | rfl | rfl | rfl | rfl | rfl | rfl | rfl | rfl | rfl | rfl | rfl | rfl | rfl | rfl | rfl | rfl | rfl | rfl | rfl | rfl | rfl | rfl | rfl | rfl | rfl | rfl | rfl | rfl | rfl | rfl | rfl | rfl | rfl | rfl | rfl | rfl | rfl | rfl | rfl | rfl | rfl | rfl | rfl | rfl | rfl | rfl | rfl
  · exact Or.inl q143
  · exact Or.inl q370
  · exact Or.inl q379
  · exact Or.inl q387
  · exact Or.inl q390
  · exact Or.inl q392
  · exact Or.inl q371
  · exact Or.inl q372
  · exact Or.inl q174
  · exact Or.inl q175
  · exact Or.inl q373
  · exact Or.inl q378
  · exact Or.inl q388
  · exact Or.inl q405
  · exact Or.inl q360
  · exact Or.inl q406
  · exact Or.inl q362
  · exact Or.inl q407
  · exact Or.inl q364
  · exact Or.inl q374
  · exact absurd hno (by decide +kernel)
  · exact Or.inl q376
  · exact absurd hno (by decide +kernel)
  · exact Or.inl q366
  · exact Or.inl q394
  · exact Or.inl q395
  · exact Or.inl q396
  · exact Or.inl q397
  · exact Or.inr ⟨nw q351 rfl, rfl⟩
  · exact Or.inl q397
  · exact Or.inl q398
  · exact Or.inl q399
  · exact Or.inl q400
  · exact Or.inr ⟨nw q353 rfl, rfl⟩
  · exact Or.inl q400
  · exact Or.inl q401
  · exact Or.inl q402
  · exact Or.inl q371
  · exact Or.inr ⟨nw q355 rfl, rfl⟩
  · exact Or.inl hl
  · exact Or.inl q349
  · exact Or.inr ⟨nw q350 rfl, rfl⟩
  · exact Or.inl q357
  · exact Or.inl q358
  · exact Or.inl q359
  · exact Or.inl q361
  · exact Or.inl q363
  · exact Or.inl q365
  · exact absurd hno (by decide +kernel)
  · exact absurd hno (by decide +kernel)
  · exact Or.inl q403
  · exact Or.inl q368
  · exact Or.inl q367
section
variable {ML : List (Nat × zIs)} {SR : List (String × Nat × String × Nat)} {p : Program} {l : Launch} {e : Env} {R : Room} {s : State} {m : MethodId} {args : Array Value} {below : List Frame} {meth : Method} {c : Code} {Qf : State → Prop} {D : va_G} {A : Nat → Prop} {ρs : Nat → Value} {hc h0 h1 : MH} {k lv pc nx : Nat} {y : MethodName} {cc : ByteArray} {ret : Option FieldType} {hh : List (Nat × Nat × Nat × Nat)} {L S : List V} {h : MH}
theorem zp_make {c0 z0 : Nat} (C : zCx ML SR p l R s m args meth c D A ρs hc h0 h1 k lv y cc ret hh) (ev : zEv ML SR k y ret cc pc nx (.multianewarray c0 z0)) (q : zPP p l e R s m args below meth c Qf D A ρs hc h0 h1 (zML k) nx (.multianewarray c0 z0) L S h) : ZGo p l e R s m args below meth c Qf D A ρs hc h0 (zML k) pc L S h := by
  obtain ⟨hx, hst, hb, hml, hown, hnm, hret, hlk, htb, hts, hT, hC, h55, hA, hR, hR2⟩ := C
  by_cases hz : zw S ≤ 8
  · have gr := (zPP_some q (if_pos hz)).1
    have q := (zPP_some q (if_pos hz)).2
    obtain ⟨rfl, hk0, ik, ic, d0, d3, d4, hl1, hl2⟩ := ev
    refine ZGo_low fun hlow _ hg1 hg2 => ?_
    have gr : hn h + 1 ≤ hn h1 ∧ hs h + 6 ≤ hs h1 := gr
    have use : ∀ w, zAt w → w.before args s = true ∧ vx_ot w = true := by
      intro w hw
      rcases hw with hw | ⟨hw, ht⟩
      · refine ⟨hts _ hw, ?_⟩
        unfold vx_ot
        rw [Bool.or_eq_true]
        exact Or.inr (List.mem_filter.mp hw).2
      · refine ⟨va_Nw.use ht (hT.1 _ hw), ?_⟩
        unfold vx_ot
        rw [Bool.or_eq_true]
        exact Or.inl ht
    have fin : ∀ (cls : String) (T0 : u_T), zcl[c0 - 100]? = some (cls, T0, 0) → Bundle.fit cls = true → zcn (c0 - 100) = cls → Cond.initialized cls ∈ lw_all → (∀ w, w ∈ vx_at0 y.cls ic cls ["java/lang/RuntimeException", "java/lang/Exception"] → zAt w) → ZGo p l e R s m args below meth c Qf D A ρs hc h0 (zML k) pc L S h := by
      intro cls T0 hcl hfit hcn hini hat
      rw [hcn] at hl1
      refine zs_make hx hb hst hown hfit (fun n hn0 => ?_) (hts _ hl1) (hts _ hini) (fun w hw => (use w (hat w hw)).1) (fun w hw => ?_) hC.2.2.2.2.2.2.1 hC.2.2.2.2.2.2.2 hml hT.2.2.2 hA hk0 hcl ?_ ?_ (by omega) (by omega) hz d0 d3 d4 q
      · rcases List.mem_cons.mp hn0 with rfl | hn0
        · decide +kernel
        · rcases List.mem_cons.mp hn0 with rfl | hn0
          · decide +kernel
          · cases hn0
      · rcases List.mem_cons.mp hw with rfl | hw
        · exact (use _ (Or.inl hl1)).2
        · rcases List.mem_cons.mp hw with rfl | hw
          · exact (use _ (Or.inl hini)).2
          · exact (use w (hat w hw)).2
      · show 2 + 3 < R.frames
        omega
      · show 8 + (13 * (2 + 1) + 42) ≤ R.locals
        omega
    rcases (show c0 = 120 ∨ c0 = 121 ∨ c0 = 122 ∨ c0 = 123 by omega) with z | z | z | z <;> subst z
    · exact fin _ _ rfl (by decide +kernel) rfl q146 (zEx120 _ _ hl2)
    · exact fin _ _ rfl (by decide +kernel) rfl q160 (zEx121 _ _ hl2)
    · exact fin _ _ rfl (by decide +kernel) rfl q153 (zEx122 _ _ hl2)
    · exact fin _ _ rfl (by decide +kernel) rfl q157 (zEx123 _ _ hl2)
  · exact zPP_none q (if_neg hz)
theorem zp_all {i : Instr} (hp : zpl i = true) (C : zCx ML SR p l R s m args meth c D A ρs hc h0 h1 k lv y cc ret hh) (ev : zEv ML SR k y ret cc pc nx i) (q : zPP p l e R s m args below meth c Qf D A ρs hc h0 h1 (zML k) nx i L S h) : ZGo p l e R s m args below meth c Qf D A ρs hc h0 (zML k) pc L S h := by
  cases i with
  | iload a0 => exact zp_iload C ev q
  | aload a0 => exact zp_aload C ev q
  | lload a0 => exact zp_lload C ev q
  | istore a0 => exact zp_istore C ev q
  | astore a0 => exact zp_astore C ev q
  | lstore a0 => exact zp_lstore C ev q
  | iinc a0 a1 => exact zp_iinc C ev q
  | iconst a0 => exact zp_iconst C ev q
  | bipush a0 => exact zp_bipush C ev q
  | sipush a0 => exact zp_sipush C ev q
  | goto_w a0 => exact zp_goto_w C ev q
  | jsr_w a0 => exact zp_jsr_w C ev q
  | jsr a0 => exact zp_jsr C ev q
  | lconst a0 => exact zp_lconst C ev q
  | ldc a0 => exact zp_ldc C ev q
  | ldc_w a0 => exact zp_ldc_w C ev q
  | getstatic a0 => exact zp_getstatic C ev q
  | iadd => exact zp_iadd C ev q
  | isub => exact zp_isub C ev q
  | imul => exact zp_imul C ev q
  | iand => exact zp_iand C ev q
  | ior => exact zp_ior C ev q
  | ixor => exact zp_ixor C ev q
  | ishl => exact zp_ishl C ev q
  | ishr => exact zp_ishr C ev q
  | iushr => exact zp_iushr C ev q
  | idiv => exact zp_idiv C ev q
  | irem => exact zp_irem C ev q
  | ineg => exact zp_ineg C ev q
  | i2l => exact zp_i2l C ev q
  | i2b => exact zp_i2b C ev q
  | i2c => exact zp_i2c C ev q
  | l2i => exact zp_l2i C ev q
  | ladd => exact zp_ladd C ev q
  | lsub => exact zp_lsub C ev q
  | lmul => exact zp_lmul C ev q
  | land => exact zp_land C ev q
  | lor => exact zp_lor C ev q
  | lxor => exact zp_lxor C ev q
  | lcmp => exact zp_lcmp C ev q
  | lshl => exact zp_lshl C ev q
  | lushr => exact zp_lushr C ev q
  | dup => exact zp_dup C ev q
  | dup_x1 => exact zp_dup_x1 C ev q
  | dup2 => exact zp_dup2 C ev q
  | pop => exact zp_pop C ev q
  | pop2 => exact zp_pop2 C ev q
  | goto a0 => exact zp_goto C ev q
  | ifnull a0 => exact zp_ifnull C ev q
  | ifnonnull a0 => exact zp_ifnonnull C ev q
  | getfield a0 => exact zp_getfield C ev q
  | putfield a0 => exact zp_putfield C ev q
  | new a0 => exact zp_new C ev q
  | arraylength => exact zp_alen C ev q
  | iaload => exact zp_iaload C ev q
  | baload => exact zp_baload C ev q
  | laload => exact zp_laload C ev q
  | aaload => exact zp_aaload C ev q
  | iastore => exact zp_iastore C ev q
  | lastore => exact zp_lastore C ev q
  | bastore => exact zp_bastore C ev q
  | aastore => exact zp_aastore C ev q
  | checkcast a0 => exact zp_checkcast C ev q
  | instanceof a0 => exact zp_instanceof C ev q
  | swap => exact zp_swap C ev q
  | dup2_x2 => exact zp_dup2_x2 C ev q
  | aconst_null => exact zp_null C ev q
  | ifCond cd t => cases cd with
    | eq => exact zp_if_eq C ev q
    | ne => exact zp_if_ne C ev q
    | lt => exact zp_if_lt C ev q
    | ge => exact zp_if_ge C ev q
    | gt => exact zp_if_gt C ev q
    | le => exact zp_if_le C ev q
  | if_icmp cd t => cases cd with
    | eq => exact zp_icmp_eq C ev q
    | ne => exact zp_icmp_ne C ev q
    | lt => exact zp_icmp_lt C ev q
    | ge => exact zp_icmp_ge C ev q
    | gt => exact zp_icmp_gt C ev q
    | le => exact zp_icmp_le C ev q
  | if_acmp cd t => cases cd with
    | eq => exact zp_acmp_eq C ev q
    | ne => exact zp_acmp_ne C ev q
  | tableswitch a b c d => exact zp_table C ev q
  | lookupswitch a b => exact zp_lookup C ev q
  | multianewarray a b => exact zp_make C ev q
  | newarray t => cases t with
    | int => exact zp_newarray_int C ev q
    | byte => exact zp_newarray_byte C ev q
    | boolean => exact zp_newarray_boolean C ev q
    | long => exact zp_newarray_long C ev q
    | _ =>
      rcases S with _ | ⟨x | x | x, S⟩
      · exact zPP_none q rfl
      · by_cases hz : 0 ≤ x ∧ x ≤ 1000000
        · exact zPP_none q (if_pos hz)
        · exact zPP_none q (if_neg hz)
      · exact zPP_none q rfl
      · exact zPP_none q rfl
  | anewarray t => exact zp_anew C ev q
  | monitorenter => exact zp_copy C ev q
  | nop => exact ev.elim
  | _ => first | exact zPP_none q rfl | exact Bool.noConfusion hp
end
