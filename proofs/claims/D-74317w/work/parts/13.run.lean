/-! The machine: one plain instruction, calls, throws; by fuel. -/
def zcmp (c : ClassFile.Cond) (x y : Int) : Bool := match c with
  | .eq => decide (x = y)
  | .ne => decide (x ≠ y)
  | .lt => decide (x < y)
  | .ge => decide (y ≤ x)
  | .gt => decide (y < x)
  | .le => decide (x ≤ y)
/-- shifts, bits on whole numbers, by the machine's own words -/
def zand (x y : Int) : Int := (Int32.ofInt x &&& Int32.ofInt y).toInt
def zor (x y : Int) : Int := (Int32.ofInt x ||| Int32.ofInt y).toInt
def zxor (x y : Int) : Int := (Int32.ofInt x ^^^ Int32.ofInt y).toInt
def zshl (x y : Int) : Int := (Int32.ofInt x <<< (Int32.ofInt y &&& 31)).toInt
def zshr (x y : Int) : Int := (Int32.ofInt x >>> (Int32.ofInt y &&& 31)).toInt
def zushr (x y : Int) : Int := ((Int32.ofInt x).toUInt32 >>> ((Int32.ofInt y).toUInt32 &&& Int32.toUInt32 31)).toInt32.toInt
def zlor (x y : Int) : Int := (Int64.ofInt x ||| Int64.ofInt y).toInt
def zland (x y : Int) : Int := (Int64.ofInt x &&& Int64.ofInt y).toInt
def zlxor (x y : Int) : Int := (Int64.ofInt x ^^^ Int64.ofInt y).toInt
def zlshl (x y : Int) : Int := (Int64.ofInt x <<< ((Int32.ofInt y).toInt64 &&& 63)).toInt
def zlushr (x y : Int) : Int := ((Int64.ofInt x).toUInt64 >>> ((Int32.ofInt y).toInt64.toUInt64 &&& Int64.toUInt64 63)).toInt64.toInt
/-- which values may be put into a field, an element -/
def zok (ft : Nat) (v : V) : Bool := match v with
  | .inl x => bif Nat.beq ft 0 then true else bif Nat.beq ft 1 then decide (x = 0 ∨ x = 1) else bif Nat.beq ft 4 then decide (-128 ≤ x ∧ x ≤ 127) else false
  | .inr (.inl _) => Nat.beq ft 2
  | .inr (.inr (.inl _)) => Nat.beq ft 3
  | .inr (.inr (.inr _)) => false
/-- default of a field by its sort -/
def zdf (f : Nat) : V := match zFT f with
  | 2 => vL 0
  | 3 => vA none
  | _ => vI 0
def zsw (x lo : Int) (d : Int) (l : List Int) : Nat := if x < lo then d.toNat else ((l[(x - lo).toNat]?).getD d).toNat
def zlsw (x : Int) (d : Int) : List (Int × Int) → Nat
  | [] => d.toNat
  | p :: l => if x = p.1 then p.2.toNat else zlsw x d l
/-- the copy of a part of an array -/
def zcpy (h : MH) (a i b j n : Nat) : MH := (h.1, h.2.1, fun a' k => if a' = b ∧ j ≤ k ∧ k < j + n then h.2.2 a (i + (k - j)) else h.2.2 a' k)
/-- how many words a stack takes -/
def zw : List V → Nat
  | [] => 0
  | .inr (.inl _) :: l => zw l + 2
  | _ :: l => zw l + 1
/-- two references that may be compared: one at least is no constant, or they are one, or one is null -/
def zac (x y : Option Nat) : Bool := match x, y with
  | some a, some b => Nat.beq a b || (Nat.ble 3 a && (Nat.ble 3 b && (Nat.ble zNC a || Nat.ble zNC b)))
  | some a, none => Nat.ble 3 a
  | none, some b => Nat.ble 3 b
  | none, none => true
def zaq (c : ClassFile.ACond) (x y : Option Nat) : Bool := match c with
  | .eq => decide (x = y)
  | .ne => decide (x ≠ y)
/-- a cast that is known to hold: objects by their kind; arrays that are no constants -/
def zCX (c kd a : Nat) : Bool := zCY c kd && (Nat.ble 100 kd || Nat.ble zNC a)
def plain (i : Instr) (nx : Nat) (L S : List V) (h : MH) : Option (Nat × List V × List V × MH) :=
  match i with
  | .nop => some (nx, L, S, h)
  | .iload n => match L[n]? with | some (.inl x) => some (nx, L, vI x :: S, h) | _ => none
  | .aload n => match L[n]? with | some (.inr (.inr (.inl r))) => some (nx, L, vA r :: S, h) | _ => none
  | .lload n => match L[n]?, L[n + 1]? with | some (.inr (.inl x)), some (.inr (.inr (.inr _))) => some (nx, L, vL x :: S, h) | _, _ => none
  | .istore n => match S with | .inl x :: S => if n < L.length then some (nx, L.set n (vI x), S, h) else none | _ => none
  | .astore n => match S with | .inr (.inr (.inl r)) :: S => if n < L.length then some (nx, L.set n (vA r), S, h) else none | _ => none
  | .lstore n => match S with | .inr (.inl x) :: S => if n + 1 < L.length then some (nx, (L.set n (vL x)).set (n + 1) vJ, S, h) else none | _ => none
  | .iinc n c => match L[n]? with | some (.inl x) => some (nx, L.set n (vI (wr (x + c))), S, h) | _ => none
  | .iconst x => some (nx, L, vI x :: S, h)
  | .bipush x => some (nx, L, vI x :: S, h)
  | .sipush x => some (nx, L, vI x :: S, h)
  | .goto_w x => some (nx, L, vI x :: S, h)
  | .jsr_w x => some (nx, L, vI x :: S, h)
  | .lconst x => some (nx, L, vL x.val :: S, h)
  | .jsr x => some (nx, L, vL x :: S, h)
  | .aconst_null => some (nx, L, vA none :: S, h)
  | .ldc a => some (nx, L, vA (some a) :: S, h)
  | .ldc_w a => some (nx, L, vA (some a) :: S, h)
  | .getstatic q => some (nx, L, zST q :: S, h)
  | .iadd => match S with | .inl y :: .inl x :: S => some (nx, L, vI (wr (x + y)) :: S, h) | _ => none
  | .isub => match S with | .inl y :: .inl x :: S => some (nx, L, vI (wr (x - y)) :: S, h) | _ => none
  | .imul => match S with | .inl y :: .inl x :: S => some (nx, L, vI (wr (x * y)) :: S, h) | _ => none
  | .idiv => match S with | .inl y :: .inl x :: S => if y = 0 then none else some (nx, L, vI (wr (x.tdiv y)) :: S, h) | _ => none
  | .irem => match S with | .inl y :: .inl x :: S => if y = 0 then none else some (nx, L, vI (x.tmod y) :: S, h) | _ => none
  | .ineg => match S with | .inl x :: S => some (nx, L, vI (wr (-x)) :: S, h) | _ => none
  | .iand => match S with | .inl y :: .inl x :: S => some (nx, L, vI (zand x y) :: S, h) | _ => none
  | .ior => match S with | .inl y :: .inl x :: S => some (nx, L, vI (zor x y) :: S, h) | _ => none
  | .ixor => match S with | .inl y :: .inl x :: S => some (nx, L, vI (zxor x y) :: S, h) | _ => none
  | .ishl => match S with | .inl y :: .inl x :: S => some (nx, L, vI (zshl x y) :: S, h) | _ => none
  | .ishr => match S with | .inl y :: .inl x :: S => some (nx, L, vI (zshr x y) :: S, h) | _ => none
  | .iushr => match S with | .inl y :: .inl x :: S => some (nx, L, vI (zushr x y) :: S, h) | _ => none
  | .ladd => match S with | .inr (.inl y) :: .inr (.inl x) :: S => some (nx, L, vL (wl (x + y)) :: S, h) | _ => none
  | .lsub => match S with | .inr (.inl y) :: .inr (.inl x) :: S => some (nx, L, vL (wl (x - y)) :: S, h) | _ => none
  | .lmul => match S with | .inr (.inl y) :: .inr (.inl x) :: S => some (nx, L, vL (wl (x * y)) :: S, h) | _ => none
  | .land => match S with | .inr (.inl y) :: .inr (.inl x) :: S => some (nx, L, vL (zland x y) :: S, h) | _ => none
  | .lor => match S with | .inr (.inl y) :: .inr (.inl x) :: S => some (nx, L, vL (zlor x y) :: S, h) | _ => none
  | .lxor => match S with | .inr (.inl y) :: .inr (.inl x) :: S => some (nx, L, vL (zlxor x y) :: S, h) | _ => none
  | .lshl => match S with | .inl y :: .inr (.inl x) :: S => some (nx, L, vL (zlshl x y) :: S, h) | _ => none
  | .lushr => match S with | .inl y :: .inr (.inl x) :: S => some (nx, L, vL (zlushr x y) :: S, h) | _ => none
  | .lcmp => match S with | .inr (.inl y) :: .inr (.inl x) :: S => some (nx, L, vI (if x < y then -1 else if x = y then 0 else 1) :: S, h) | _ => none
  | .i2l => match S with | .inl x :: S => some (nx, L, vL x :: S, h) | _ => none
  | .l2i => match S with | .inr (.inl x) :: S => some (nx, L, vI (wr x) :: S, h) | _ => none
  | .i2b => match S with | .inl x :: S => some (nx, L, vI (wb x) :: S, h) | _ => none
  | .i2c => match S with | .inl x :: S => some (nx, L, vI (wc x) :: S, h) | _ => none
  | .dup => match S with | .inl x :: S => some (nx, L, vI x :: vI x :: S, h) | .inr (.inr (.inl r)) :: S => some (nx, L, vA r :: vA r :: S, h) | _ => none
  | .dup_x1 => match S with
    | .inl y :: .inl x :: S => some (nx, L, vI y :: vI x :: vI y :: S, h)
    | .inl y :: .inr (.inr (.inl r)) :: S => some (nx, L, vI y :: vA r :: vI y :: S, h)
    | .inr (.inr (.inl q)) :: .inr (.inr (.inl r)) :: S => some (nx, L, vA q :: vA r :: vA q :: S, h)
    | .inr (.inr (.inl q)) :: .inl x :: S => some (nx, L, vA q :: vI x :: vA q :: S, h)
    | _ => none
  | .dup2 => match S with
    | .inl y :: .inr (.inr (.inl r)) :: S => some (nx, L, vI y :: vA r :: vI y :: vA r :: S, h)
    | .inr (.inl x) :: S => some (nx, L, vL x :: vL x :: S, h)
    | _ => none
  | .pop => match S with | .inl _ :: S => some (nx, L, S, h) | .inr (.inr (.inl _)) :: S => some (nx, L, S, h) | _ => none
  | .pop2 => match S with | .inr (.inr (.inl (some a))) :: S => if zw S ≤ 8 ∧ zNC ≤ a then some (nx, L, S, h) else none | _ => none
  | .goto t => some (t.toNat, L, S, h)
  | .ifCond c t => match S with | .inl x :: S => if zcmp c x 0 then some (t.toNat, L, S, h) else some (nx, L, S, h) | _ => none
  | .if_icmp c t => match S with | .inl y :: .inl x :: S => if zcmp c x y then some (t.toNat, L, S, h) else some (nx, L, S, h) | _ => none
  | .if_acmp c t => match S with
    | .inr (.inr (.inl y)) :: .inr (.inr (.inl x)) :: S => if zac x y = true then (if zaq c x y = true then some (t.toNat, L, S, h) else some (nx, L, S, h)) else none
    | _ => none
  | .ifnull t => match S with | .inr (.inr (.inl none)) :: S => some (t.toNat, L, S, h) | .inr (.inr (.inl (some a))) :: S => if 3 ≤ a then some (nx, L, S, h) else none | _ => none
  | .ifnonnull t => match S with | .inr (.inr (.inl none)) :: S => some (nx, L, S, h) | .inr (.inr (.inl (some a))) :: S => if 3 ≤ a then some (t.toNat, L, S, h) else none | _ => none
  | .tableswitch d lo hi o => match S with | .inl x :: S => some (if hi < x then d.toNat else zsw x lo d o.toList, L, S, h) | _ => none
  | .lookupswitch d o => match S with | .inl x :: S => some (zlsw x d o.toList, L, S, h) | _ => none
  | .getfield f => match S with | .inr (.inr (.inl (some a))) :: S => if zhas f (hk h a) = true then some (nx, L, hm h a f :: S, h) else none | _ => none
  | .putfield f => match S with | v :: .inr (.inr (.inl (some a))) :: S => if zNC ≤ a ∧ zhas f (hk h a) = true ∧ zok (zFT f) v = true then some (nx, L, S, hput h a f v) else none | _ => none
  | .new c => some (nx, L, vA (some (hn h)) :: S, hnew h (c, 0) (zSL c) zdf)
  | .multianewarray c _ => if zw S ≤ 8 then some (nx, L, vA (some (hn h)) :: S, hnew h (c, 0) 6 zdf) else none
  | .newarray t => match S with
    | .inl x :: S => if 0 ≤ x ∧ x ≤ 1000000 then (match t with
      | .int => some (nx, L, vA (some (hn h)) :: S, hnew h (1, x.toNat) x.toNat (fun _ => vI 0))
      | .byte => some (nx, L, vA (some (hn h)) :: S, hnew h (2, x.toNat) x.toNat (fun _ => vI 0))
      | .boolean => some (nx, L, vA (some (hn h)) :: S, hnew h (3, x.toNat) x.toNat (fun _ => vI 0))
      | .long => some (nx, L, vA (some (hn h)) :: S, hnew h (4, x.toNat) x.toNat (fun _ => vL 0))
      | _ => none) else none
    | _ => none
  | .anewarray t => match S with | .inl x :: S => if 0 ≤ x ∧ x ≤ 1000000 ∧ 5 ≤ t ∧ t ≤ 7 then some (nx, L, vA (some (hn h)) :: S, hnew h (t, x.toNat) x.toNat (fun _ => vA none)) else none | _ => none
  | .arraylength => match S with | .inr (.inr (.inl (some a))) :: S => if 1 ≤ (hk h a).1 ∧ (hk h a).1 ≤ 7 then some (nx, L, vI ((hk h a).2 : Int) :: S, h) else none | _ => none
  | .iaload => match S with | .inl i :: .inr (.inr (.inl (some a))) :: S => if (hk h a).1 = 1 ∧ 0 ≤ i ∧ i < ((hk h a).2 : Int) then some (nx, L, hm h a i.toNat :: S, h) else none | _ => none
  | .baload => match S with | .inl i :: .inr (.inr (.inl (some a))) :: S => if ((hk h a).1 = 2 ∨ (hk h a).1 = 3) ∧ 0 ≤ i ∧ i < ((hk h a).2 : Int) then some (nx, L, hm h a i.toNat :: S, h) else none | _ => none
  | .laload => match S with | .inl i :: .inr (.inr (.inl (some a))) :: S => if (hk h a).1 = 4 ∧ 0 ≤ i ∧ i < ((hk h a).2 : Int) then some (nx, L, hm h a i.toNat :: S, h) else none | _ => none
  | .aaload => match S with | .inl i :: .inr (.inr (.inl (some a))) :: S => if ((5 ≤ (hk h a).1 ∧ (hk h a).1 ≤ 7) ∧ 0 ≤ i ∧ i < ((hk h a).2 : Int)) ∨ ((hk h a).1 = 8 ∧ 128 ≤ i ∧ i < 144) then some (nx, L, hm h a i.toNat :: S, h) else none | _ => none
  | .iastore => match S with | .inl x :: .inl i :: .inr (.inr (.inl (some a))) :: S => if (hk h a).1 = 1 ∧ (0 ≤ i ∧ i < ((hk h a).2 : Int)) ∧ zNC ≤ a then some (nx, L, S, hput h a i.toNat (vI x)) else none | _ => none
  | .bastore => match S with
    | .inl x :: .inl i :: .inr (.inr (.inl (some a))) :: S => if ((hk h a).1 = 2 ∨ (hk h a).1 = 3) ∧ (0 ≤ i ∧ i < ((hk h a).2 : Int)) ∧ zNC ≤ a ∧ ((hk h a).1 = 3 → x = 0 ∨ x = 1) then some (nx, L, S, hput h a i.toNat (vI (if (hk h a).1 = 2 then wb x else x))) else none
    | _ => none
  | .lastore => match S with | .inr (.inl x) :: .inl i :: .inr (.inr (.inl (some a))) :: S => if (hk h a).1 = 4 ∧ (0 ≤ i ∧ i < ((hk h a).2 : Int)) ∧ zNC ≤ a then some (nx, L, S, hput h a i.toNat (vL x)) else none | _ => none
  | .aastore => match S with
    | .inr (.inr (.inl none)) :: .inl i :: .inr (.inr (.inl (some a))) :: S => if (5 ≤ (hk h a).1 ∧ (hk h a).1 ≤ 6) ∧ (0 ≤ i ∧ i < ((hk h a).2 : Int)) ∧ zNC ≤ a then some (nx, L, S, hput h a i.toNat (vA none)) else none
    | .inr (.inr (.inl (some b))) :: .inl i :: .inr (.inr (.inl (some a))) :: S => if (5 ≤ (hk h a).1 ∧ (hk h a).1 ≤ 7) ∧ (0 ≤ i ∧ i < ((hk h a).2 : Int)) ∧ zNC ≤ a ∧ (3 ≤ b ∧ ((hk h a).1 = 5 → 100 ≤ (hk h b).1) ∧ ((hk h a).1 = 6 → (hk h b).1 = 105) ∧ ((hk h a).1 = 7 → (hk h b).1 = 2 ∧ zNC ≤ b)) then some (nx, L, S, hput h a i.toNat (vA (some b))) else none
    | _ => none
  | .checkcast c => match S with
    | .inr (.inr (.inl none)) :: S => some (nx, L, vA none :: S, h)
    | .inr (.inr (.inl (some a))) :: S => if zCX c (hk h a).1 a = true then some (nx, L, vA (some a) :: S, h) else none
    | _ => none
  | .instanceof c => match S with
    | .inr (.inr (.inl (some a))) :: S => if zCX c (hk h a).1 a = true then some (nx, L, vI 1 :: S, h) else none
    | _ => none
  | .monitorenter => match S with
    | .inl n :: .inl j :: .inr (.inr (.inl (some b))) :: .inl i :: .inr (.inr (.inl (some a))) :: S =>
      if ((hk h a).1 = (hk h b).1 ∧ ((hk h a).1 = 2 ∨ (hk h a).1 = 4)) ∧ (0 ≤ i ∧ 0 ≤ j ∧ 0 ≤ n ∧ i + n ≤ ((hk h a).2 : Int) ∧ j + n ≤ ((hk h b).2 : Int)) ∧ a ≠ b ∧ zNC ≤ b ∧ zw S ≤ 8 then some (nx, L, S, zcpy h a i.toNat b j.toNat n.toNat) else none
    | _ => none
  | .swap => match S with | .inr (.inr (.inl (some a))) :: S => if (hk h a).1 = 2 ∧ zNC ≤ a ∧ zw S ≤ 8 then some (nx, L, vA (some (hn h)) :: S, hnew h (hk h a) (hk h a).2 (hm h a)) else none | _ => none
  | .dup2_x2 => match S with | .inr (.inr (.inl (some a))) :: S => if (hk h a).1 = 4 ∧ zNC ≤ a ∧ zw S ≤ 8 then some (nx, L, vA (some (hn h)) :: S, hnew h (hk h a) (hk h a).2 (hm h a)) else none | _ => none
  | _ => none
abbrev ZO : Type := Option V ⊕ Nat
/-- the first n values of a stack, deepest first, and the rest -/
def zpop : Nat → List V → List V → Option (List V × List V)
  | 0, acc, S => some (acc, S)
  | n + 1, acc, v :: S => zpop n (v :: acc) S
  | _ + 1, _, [] => none
def zlay : List V → List V
  | [] => []
  | .inr (.inl x) :: l => vL x :: vJ :: zlay l
  | v :: l => v :: zlay l
def zpad : Nat → List V → List V
  | 0, _ => []
  | n + 1, [] => vJ :: zpad n []
  | n + 1, v :: l => v :: zpad n l
def zin (m : Nat) (as : List V) : List V := zpad (zML m) (zlay as)
def zlv (k lv m : Nat) : Nat := if m = k then lv - 1 else zMX m
def zcan (k lv m : Nat) : Prop := if m = k then 1 ≤ lv else zRK m + zMX m < zRK k
/-- what an instruction asks the rest of the run for -/
def zcall (R : Nat → Nat → Nat → List V → List V → MH → (ZO → MH → Prop) → Prop) (k lv pc nx m n : Nat) (L S : List V) (h : MH) (Q : ZO → MH → Prop) : Prop :=
  match zpop n [] S with
  | none => False
  | some (as, S') => (zcan k lv m ∧ zw S' ≤ 8 ∧ Nat.ble (zlay as).length (zML m) = true) ∧ R m (zlv k lv m) 0 (zin m as) [] h (fun o h1 => match o with
      | .inl none => R k lv nx L S' h1 Q
      | .inl (some v) => R k lv nx L (v :: S') h1 Q
      | .inr e => match zHF pc (hk h1 e).1 (zHD k) with
        | some t => R k lv t L [vA (some e)] h1 Q
        | none => Q (.inr e) h1)
/-- whose class a virtual call looks at: under n - 1 values -/
def zrecv (n : Nat) (S : List V) : Option Nat := match S[n - 1]? with
  | some (.inr (.inr (.inl (some a)))) => some a
  | _ => none
/-- what a method of a sort may hand back: 0 int, 1 boolean, 2 byte, 3 char -/
def zrok (t : Nat) (x : Int) : Prop := match t with
  | 0 => True
  | 1 => x = 0 ∨ x = 1
  | 2 => -128 ≤ x ∧ x ≤ 127
  | _ => 0 ≤ x ∧ x ≤ 65535
def zstep (R : Nat → Nat → Nat → List V → List V → MH → (ZO → MH → Prop) → Prop) (k lv pc nx : Nat) (i : Instr) (L S : List V) (h : MH) (Q : ZO → MH → Prop) : Prop :=
  match i with
  | .return_ => match S with | [] => Q (.inl none) h | _ => False
  | .ireturn => match S with | [.inl x] => zrok (zRT k) x ∧ Q (.inl (some (vI x))) h | _ => False
  | .lreturn => match S with | [.inr (.inl x)] => Q (.inl (some (vL x))) h | _ => False
  | .areturn => match S with | [.inr (.inr (.inl r))] => Q (.inl (some (vA r))) h | _ => False
  | .athrow => match S with
    | .inr (.inr (.inl (some e))) :: _ => ((120 ≤ (hk h e).1 ∧ (hk h e).1 ≤ 123) ∨ (hk h e).1 = 109) ∧ (match zHF pc (hk h e).1 (zHD k) with
      | some t => R k lv t L [vA (some e)] h Q
      | none => Q (.inr e) h)
    | _ => False
  | .invokestatic m => zcall R k lv pc nx m (zNA m) L S h Q
  | .invokespecial m => match zrecv (zNA m) S with | some a => (zNC ≤ a ∧ 100 ≤ (hk h a).1) ∧ zcall R k lv pc nx m (zNA m) L S h Q | none => False
  | .invokevirtual v => match zrecv (zVN v) S with
    | some a => match zVT v (hk h a).1 with | some m => zcall R k lv pc nx m (zVN v) L S h Q | none => False
    | none => False
  | .invokeinterface v _ => match zrecv (zVN v) S with
    | some a => match zVT v (hk h a).1 with | some m => zcall R k lv pc nx m (zVN v) L S h Q | none => False
    | none => False
  | _ => match plain i nx L S h with
    | some (pc', L', S', h') => R k lv pc' L' S' h' Q
    | none => False
def WPn : Nat → Nat → Nat → Nat → List V → List V → MH → (ZO → MH → Prop) → Prop
  | 0, _, _, _, _, _, _, _ => False
  | n + 1, k, lv, pc, L, S, h, Q => match zcode k pc with
    | some (nx, i) => zstep (WPn n) k lv pc nx i L S h Q
    | none => False
def WP (k lv pc : Nat) (L S : List V) (h : MH) (Q : ZO → MH → Prop) : Prop := ∃ n, WPn n k lv pc L S h Q
/-- what one step asks is kept by a rest of the run that asks less -/
theorem zcall_mono {R R' : Nat → Nat → Nat → List V → List V → MH → (ZO → MH → Prop) → Prop} {k lv pc nx m n : Nat} {L S : List V} {h : MH} {Q Q' : ZO → MH → Prop} (hR : ∀ k lv pc L S h (P P' : ZO → MH → Prop), (∀ o h, P o h → P' o h) → R k lv pc L S h P → R' k lv pc L S h P') (hQ : ∀ o h, Q o h → Q' o h) (q : zcall R k lv pc nx m n L S h Q) : zcall R' k lv pc nx m n L S h Q' := by
  unfold zcall at q ⊢
  split at q
  · exact q.elim
  · refine ⟨q.1, hR _ _ _ _ _ _ _ _ (fun o h1 p => ?_) q.2⟩
    split at p
    · exact hR _ _ _ _ _ _ _ _ hQ p
    · exact hR _ _ _ _ _ _ _ _ hQ p
    · split at p
      · exact hR _ _ _ _ _ _ _ _ hQ p
      · exact hQ _ _ p
theorem zstep_mono {R R' : Nat → Nat → Nat → List V → List V → MH → (ZO → MH → Prop) → Prop} {k lv pc nx : Nat} {i : Instr} {L S : List V} {h : MH} {Q Q' : ZO → MH → Prop} (hR : ∀ k lv pc L S h (P P' : ZO → MH → Prop), (∀ o h, P o h → P' o h) → R k lv pc L S h P → R' k lv pc L S h P') (hQ : ∀ o h, Q o h → Q' o h) (q : zstep R k lv pc nx i L S h Q) : zstep R' k lv pc nx i L S h Q' := by
  unfold zstep at q ⊢
  split at q
  · split at q
    · exact hQ _ _ q
    · exact q.elim
  · split at q
    · exact ⟨q.1, hQ _ _ q.2⟩
    · exact q.elim
  · split at q
    · exact hQ _ _ q
    · exact q.elim
  · split at q
    · exact hQ _ _ q
    · exact q.elim
  · split at q
    · refine ⟨q.1, ?_⟩
      have q := q.2
      split at q
      · exact hR _ _ _ _ _ _ _ _ hQ q
      · exact hQ _ _ q
    · exact q.elim
  · exact zcall_mono hR hQ q
  · split at q
    · exact ⟨q.1, zcall_mono hR hQ q.2⟩
    · exact q.elim
  · split at q
    · split at q
      · exact zcall_mono hR hQ q
      · exact q.elim
    · exact q.elim
  · split at q
    · split at q
      · exact zcall_mono hR hQ q
      · exact q.elim
    · exact q.elim
  · rename_i i h1 h2 h3 h4 h5 h6 h7 h8 h9
    split at q
    · exact hR _ _ _ _ _ _ _ _ hQ q
    · exact q.elim
theorem WPn_post : ∀ (n k lv pc : Nat) (L S : List V) (h : MH) (P P' : ZO → MH → Prop), (∀ o h, P o h → P' o h) → WPn n k lv pc L S h P → WPn n k lv pc L S h P' := by
  intro n
  induction n with
  | zero => intro k lv pc L S h P P' _ q; exact q
  | succ n ih =>
    intro k lv pc L S h P P' hp q
    unfold WPn at q ⊢
    split at q
    · exact zstep_mono ih hp q
    · exact q
theorem WPn_succ : ∀ (n k lv pc : Nat) (L S : List V) (h : MH) (P : ZO → MH → Prop), WPn n k lv pc L S h P → WPn (n + 1) k lv pc L S h P := by
  intro n
  induction n with
  | zero => intro k lv pc L S h P q; exact q.elim
  | succ n ih =>
    intro k lv pc L S h P q
    unfold WPn at q ⊢
    split at q
    · exact zstep_mono (fun k lv pc L S h P P' hp q => ih _ _ _ _ _ _ _ (WPn_post _ _ _ _ _ _ _ _ _ hp q)) (fun _ _ x => x) q
    · exact q
theorem WPn_le {n m : Nat} (hnm : n ≤ m) {k lv pc : Nat} {L S : List V} {h : MH} {P : ZO → MH → Prop} (q : WPn n k lv pc L S h P) : WPn m k lv pc L S h P := by
  induction m with
  | zero => rw [Nat.le_zero.mp hnm] at q; exact q
  | succ m ih =>
    rcases Nat.lt_or_ge n (m + 1) with c | c
    · exact WPn_succ _ _ _ _ _ _ _ _ (ih (Nat.le_of_lt_succ c))
    · rw [Nat.le_antisymm hnm c] at q; exact q
theorem WP_post {k lv pc : Nat} {L S : List V} {h : MH} {P P' : ZO → MH → Prop} (q : WP k lv pc L S h P) (hp : ∀ o h, P o h → P' o h) : WP k lv pc L S h P' := by
  obtain ⟨n, q⟩ := q
  exact ⟨n, WPn_post _ _ _ _ _ _ _ _ _ hp q⟩
theorem zcall_det {R : Nat → Nat → Nat → List V → List V → MH → (ZO → MH → Prop) → Prop} {k lv pc nx m n : Nat} {L S : List V} {h : MH} {Q : ZO → MH → Prop} (hR : ∀ k lv pc L S h (P P' : ZO → MH → Prop), (∀ o h, P o h → P' o h) → R k lv pc L S h P → R k lv pc L S h P') (hD : ∀ k lv pc L S h (P : ZO → MH → Prop), R k lv pc L S h P → ∃ o h', P o h' ∧ R k lv pc L S h (fun o1 h1 => o1 = o ∧ h1 = h')) (q : zcall R k lv pc nx m n L S h Q) : ∃ o h', Q o h' ∧ zcall R k lv pc nx m n L S h (fun o1 h1 => o1 = o ∧ h1 = h') := by
  unfold zcall at q ⊢
  split at q
  · exact q.elim
  · rename_i as S' hpop
    obtain ⟨o, h1, q1, q2⟩ := hD _ _ _ _ _ _ _ q.2
    split at q1
    · obtain ⟨o2, h2, q3, q4⟩ := hD _ _ _ _ _ _ _ q1
      exact ⟨o2, h2, q3, q.1, hR _ _ _ _ _ _ _ _ (fun o h e => by obtain ⟨rfl, rfl⟩ := e; exact q4) q2⟩
    · obtain ⟨o2, h2, q3, q4⟩ := hD _ _ _ _ _ _ _ q1
      exact ⟨o2, h2, q3, q.1, hR _ _ _ _ _ _ _ _ (fun o h e => by obtain ⟨rfl, rfl⟩ := e; exact q4) q2⟩
    · rename_i e0
      cases ht : zHF pc (hk h1 e0).1 (zHD k) with
      | some t =>
        rw [ht] at q1
        obtain ⟨o2, h2, q3, q4⟩ := hD _ _ _ _ _ _ _ q1
        exact ⟨o2, h2, q3, q.1, hR _ _ _ _ _ _ _ _ (fun o h e => by obtain ⟨rfl, rfl⟩ := e; simp only [ht]; exact q4) q2⟩
      | none =>
        rw [ht] at q1
        exact ⟨_, _, q1, q.1, hR _ _ _ _ _ _ _ _ (fun o h e => by obtain ⟨rfl, rfl⟩ := e; simp [ht]) q2⟩
theorem zstep_det {R : Nat → Nat → Nat → List V → List V → MH → (ZO → MH → Prop) → Prop} {k lv pc nx : Nat} {i : Instr} {L S : List V} {h : MH} {Q : ZO → MH → Prop} (hR : ∀ k lv pc L S h (P P' : ZO → MH → Prop), (∀ o h, P o h → P' o h) → R k lv pc L S h P → R k lv pc L S h P') (hD : ∀ k lv pc L S h (P : ZO → MH → Prop), R k lv pc L S h P → ∃ o h', P o h' ∧ R k lv pc L S h (fun o1 h1 => o1 = o ∧ h1 = h')) (q : zstep R k lv pc nx i L S h Q) : ∃ o h', Q o h' ∧ zstep R k lv pc nx i L S h (fun o1 h1 => o1 = o ∧ h1 = h') := by
  unfold zstep at q ⊢
  split at q
  · split at q
    · exact ⟨_, _, q, rfl, rfl⟩
    · exact q.elim
  · split at q
    · exact ⟨_, _, q.2, q.1, rfl, rfl⟩
    · exact q.elim
  · split at q
    · exact ⟨_, _, q, rfl, rfl⟩
    · exact q.elim
  · split at q
    · exact ⟨_, _, q, rfl, rfl⟩
    · exact q.elim
  · split at q
    · obtain ⟨q0, q⟩ := q
      split at q
      · obtain ⟨o2, h2, q3, q4⟩ := hD _ _ _ _ _ _ _ q
        exact ⟨o2, h2, q3, q0, q4⟩
      · exact ⟨_, _, q, q0, rfl, rfl⟩
    · exact q.elim
  · exact zcall_det hR hD q
  · split at q
    · obtain ⟨o2, h2, q3, q4⟩ := zcall_det hR hD q.2
      exact ⟨o2, h2, q3, q.1, q4⟩
    · exact q.elim
  · split at q
    · split at q
      · exact zcall_det hR hD q
      · exact q.elim
    · exact q.elim
  · split at q
    · split at q
      · exact zcall_det hR hD q
      · exact q.elim
    · exact q.elim
  · split at q
    · exact hD _ _ _ _ _ _ _ q
    · exact q.elim
theorem WPn_det : ∀ (n k lv pc : Nat) (L S : List V) (h : MH) (P : ZO → MH → Prop), WPn n k lv pc L S h P → ∃ o h', P o h' ∧ WPn n k lv pc L S h (fun o1 h1 => o1 = o ∧ h1 = h') := by
  intro n
  induction n with
  | zero => intro k lv pc L S h P q; exact q.elim
  | succ n ih =>
    intro k lv pc L S h P q
    unfold WPn at q ⊢
    split at q
    · exact zstep_det (WPn_post n) ih q
    · exact q.elim
/-- one step of a run -/
theorem WP_of {k lv pc nx : Nat} {i : Instr} {L S : List V} {h : MH} {Q : ZO → MH → Prop} (hc : zcode k pc = some (nx, i)) : WP k lv pc L S h Q ↔ ∃ n, zstep (WPn n) k lv pc nx i L S h Q := by
  constructor
  · rintro ⟨n, q⟩
    cases n with
    | zero => exact q.elim
    | succ n =>
      unfold WPn at q
      rw [hc] at q
      exact ⟨n, q⟩
  · rintro ⟨n, q⟩
    refine ⟨n + 1, ?_⟩
    unfold WPn
    rw [hc]
    exact q
def zpl (i : Instr) : Bool := match i with
  | .return_ | .ireturn | .lreturn | .areturn | .athrow | .invokestatic _ | .invokespecial _ | .invokevirtual _ | .invokeinterface _ _ => false
  | _ => true
theorem zstep_pl {R : Nat → Nat → Nat → List V → List V → MH → (ZO → MH → Prop) → Prop} {k lv pc nx : Nat} {i : Instr} {L S : List V} {h : MH} {Q : ZO → MH → Prop} (hp : zpl i = true) : zstep R k lv pc nx i L S h Q = (match plain i nx L S h with | some (pc', L', S', h') => R k lv pc' L' S' h' Q | none => False) := by
  cases i <;> first | rfl | exact absurd hp Bool.false_ne_true
theorem wp_plain {k lv pc nx pc' : Nat} {i : Instr} {L S L' S' : List V} {h h' : MH} {Q : ZO → MH → Prop} (hc : zcode k pc = some (nx, i)) (hp : zpl i = true) (he : plain i nx L S h = some (pc', L', S', h')) : WP k lv pc L S h Q ↔ WP k lv pc' L' S' h' Q := by
  rw [WP_of hc]
  simp only [zstep_pl hp, he]
  exact Iff.rfl
theorem wp_stuck {k lv pc nx : Nat} {i : Instr} {L S : List V} {h : MH} {Q : ZO → MH → Prop} (hc : zcode k pc = some (nx, i)) (hp : zpl i = true) (he : plain i nx L S h = none) : WP k lv pc L S h Q ↔ False := by
  rw [WP_of hc]
  simp only [zstep_pl hp, he]
  simp
