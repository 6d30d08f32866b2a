/-! PURE, printed out of the bytecode by wip/D-98610w/gen/comp.py -/
set_option maxRecDepth 100000

/-- java/util/ArrayList.size()I -/
def J2_size (a0 : Nat) (g : GS) : Option (Int32) :=
  wk_ g a0 12 <|
  some (gI g a0 2)
def J11_checkIndex_j9 (x0 : Int32) (x1 : Int32) (x2 : Nat) (g : GS) : Option (Int32) :=
  none
/-- jdk/internal/util/Preconditions.checkIndex(IILjava/util/function/BiFunction;)I -/
def J11_checkIndex (x0 : Int32) (x1 : Int32) (x2 : Nat) (g : GS) : Option (Int32) :=
  if x0 < 0 then
  J11_checkIndex_j9 x0 x1 x2 g
else
  if x0 < x1 then
    some x0
  else
    J11_checkIndex_j9 x0 x1 x2 g
/-- java/util/Objects.checkIndex(II)I -/
def J17_checkIndex (x0 : Int32) (x1 : Int32) (g : GS) : Option (Int32) :=
  ob_ (J11_checkIndex x0 x1 0 g) fun r2 =>
  some r2
/-- java/util/ArrayList.elementData(I)Ljava/lang/Object; -/
def J2_elementData (a0 : Nat) (x1 : Int32) (g : GS) : Option (Nat) :=
  wk_ g a0 12 <|
  nn_ (gR g a0 1) fun b2 =>
  rk_ g b2 103 <|
  in_ x1 (gN g b2) <|
  nn_ (gR g b2 x1.toNatClampNeg) fun b6 =>
  some b6
/-- java/util/ArrayList.get(I)Ljava/lang/Object; -/
def J2_get (a0 : Nat) (x1 : Int32) (g : GS) : Option (Nat) :=
  wk_ g a0 12 <|
  ob_ (J17_checkIndex x1 (gI g a0 2) g) fun r3 =>
  ob_ (J2_elementData a0 x1 g) fun r5 =>
  some r5
def J15_newLength_j21 (x0 : Int32) (x1 : Int32) : Option (Int32) :=
  none
/-- jdk/internal/util/ArraysSupport.newLength(III)I -/
def J15_newLength (x0 : Int32) (x1 : Int32) (x2 : Int32) : Option (Int32) :=
  if (x0 + (jmax_ x1 x2)) ≤ (0 : Int32) then
  J15_newLength_j21 x0 x1
else
  if 2147483639 < (x0 + (jmax_ x1 x2)) then
    J15_newLength_j21 x0 x1
  else
    some (x0 + (jmax_ x1 x2))
def J16_copyOf_2_j24 (a0 : Nat) (x1 : Int32) (t0 : Nat) (g : GS) : Option ((Nat × GS) × Nat × Nat) :=
  rk_ g a0 103 <|
  wk_ g t0 103 <|
  gd_ (acR_ g a0 0 t0 0 (jmin_ (Int32.ofNat (gN g a0)) x1)) <|
  some ((t0, cR_ g a0 (0 : Int32).toNatClampNeg t0 (0 : Int32).toNatClampNeg (jmin_ (Int32.ofNat (gN g a0)) x1).toNatClampNeg), 0, 0)
/-- java/util/Arrays.copyOf([Ljava/lang/Object;ILjava/lang/Class;)[Ljava/lang/Object; -/
def J16_copyOf_2 (a0 : Nat) (x1 : Int32) (a2 : Nat) (g : GS) : Option ((Nat × GS) × Nat × Nat) :=
  if a2 = (gS g 8) then
  na_ x1 <|
    al_ g 103 x1.toNatClampNeg fun u2 g3 =>
    J16_copyOf_2_j24 a0 x1 u2 g3
else
  none
/-- java/util/Arrays.copyOf([Ljava/lang/Object;I)[Ljava/lang/Object; -/
def J16_copyOf (a0 : Nat) (x1 : Int32) (g : GS) : Option ((Nat × GS) × Nat × Nat) :=
  rk_ g a0 103 <|
  ca_ (J16_copyOf_2 a0 x1 (gS g 8) g) fun r4 g3 =>
  some ((r4, g3), 0, 0)
def J2_grow_2_j20 (a0 : Nat) (x1 : Int32) (x2 : Int32) (g : GS) : Option ((Nat × GS) × Nat × Nat) :=
  ob_ (J15_newLength x2 (x1 - x2) (x2 >>> ((1 : Int32) &&& 31))) fun r7 =>
  wk_ g a0 12 <|
  nn_ (gR g a0 1) fun b9 =>
  ca_ (J16_copyOf b9 r7 g) fun r13 g12 =>
  wk_ g12 a0 12 <|
  some ((r13, pR g12 a0 1 (r13 + 1)), 0, 0)
/-- java/util/ArrayList.grow(I)[Ljava/lang/Object; -/
def J2_grow_2 (a0 : Nat) (x1 : Int32) (g : GS) : Option ((Nat × GS) × Nat × Nat) :=
  wk_ g a0 12 <|
  nn_ (gR g a0 1) fun b2 =>
  rk_ g b2 103 <|
  if 0 < (Int32.ofNat (gN g b2)) then
  J2_grow_2_j20 a0 x1 (Int32.ofNat (gN g b2)) g
else
  nn_ (gR g a0 1) fun b17 =>
    nn_ (gS g 1) fun b19 =>
    if b17 = b19 then
    na_ (jmax_ 10 x1) <|
      al_ g 103 ((jmax_ 10 x1).toNatClampNeg) fun u22 g23 =>
      wk_ g23 a0 12 <|
      some ((u22, pR g23 a0 1 (u22 + 1)), 0, 0)
  else
    J2_grow_2_j20 a0 x1 (Int32.ofNat (gN g b2)) g
/-- java/util/ArrayList.grow()[Ljava/lang/Object; -/
def J2_grow (a0 : Nat) (g : GS) : Option ((Nat × GS) × Nat × Nat) :=
  wk_ g a0 12 <|
  ca_ (J2_grow_2 a0 ((gI g a0 2) + 1) g) fun r4 g3 =>
  some ((r4, g3), 0, 0)
def J2_add_2_j11 (a0 : Nat) (a1 : Nat) (a2 : Nat) (x3 : Int32) (g : GS) : Option ((Unit × GS) × Nat × Nat) :=
  wk_ g a2 103 <|
  in_ x3 (gN g a2) <|
  gd_ (g_sto (gK g a1 % 1000)) <|
  wk_ (pR g a2 x3.toNatClampNeg (a1 + 1)) a0 12 <|
  some (((), pI (pR g a2 x3.toNatClampNeg (a1 + 1)) a0 2 (x3 + 1)), 0, 0)
/-- java/util/ArrayList.add(Ljava/lang/Object;[Ljava/lang/Object;I)V -/
def J2_add_2 (a0 : Nat) (a1 : Nat) (a2 : Nat) (x3 : Int32) (g : GS) : Option ((Unit × GS) × Nat × Nat) :=
  rk_ g a2 103 <|
  if x3 = (Int32.ofNat (gN g a2)) then
  wk_ g a0 12 <|
    ca_ (J2_grow a0 g) fun r10 g9 =>
    J2_add_2_j11 a0 a1 r10 x3 g9
else
  J2_add_2_j11 a0 a1 a2 x3 g
/-- java/util/ArrayList.add(Ljava/lang/Object;)Z -/
def J2_add (a0 : Nat) (a1 : Nat) (g : GS) : Option ((Int32 × GS) × Nat × Nat) :=
  wk_ g a0 12 <|
  nn_ (gR (pI g a0 0 ((gI g a0 0) + 1)) a0 1) fun b2 =>
  ca_ (J2_add_2 a0 a1 b2 (gI (pI g a0 0 ((gI g a0 0) + 1)) a0 2) (pI g a0 0 ((gI g a0 0) + 1))) fun r6 g5 =>
  some ((1, g5), 0, 0)
/-- java/util/ArrayList.isEmpty()Z -/
def J2_isEmpty (a0 : Nat) (g : GS) : Option (Int32) :=
  wk_ g a0 12 <|
  if (gI g a0 2) = 0 then
  some 1
else
  some 0
/-- java/util/ArrayList.set(ILjava/lang/Object;)Ljava/lang/Object; -/
def J2_set (a0 : Nat) (x1 : Int32) (a2 : Nat) (g : GS) : Option (Nat × GS) :=
  wk_ g a0 12 <|
  ob_ (J17_checkIndex x1 (gI g a0 2) g) fun r3 =>
  ob_ (J2_elementData a0 x1 g) fun r5 =>
  nn_ (gR g a0 1) fun b6 =>
  wk_ g b6 103 <|
  in_ x1 (gN g b6) <|
  gd_ (g_sto (gK g a2 % 1000)) <|
  some (r5, pR g b6 x1.toNatClampNeg (a2 + 1))
def J2_clear_b27 (a1 : Nat) (x2 : Int32) (x3 : Int32) (g : GS) : Option ((Int32 × GS) ⊕ (GS)) :=
  if x2 ≤ x3 then
  some (.inr g)
else
  wk_ g a1 103 <|
    in_ x3 (gN g a1) <|
    some (.inl (x3 + 1, pR g a1 x3.toNatClampNeg 0))
/-- java/util/ArrayList.clear()V -/
def J2_clear (a0 : Nat) (g : GS) : Option (GS) :=
  wk_ g a0 12 <|
  nn_ (gR (pI g a0 0 ((gI g a0 0) + 1)) a0 1) fun b2 =>
  ob_ (lp_ (fun a => J2_clear_b27 b2 (gI (pI g a0 0 ((gI g a0 0) + 1)) a0 2) a.1 a.2) fu_ (0, pI (pI g a0 0 ((gI g a0 0) + 1)) a0 2 0)) fun e7 =>
  some e7
def J2_fastRemove_j34 (a0 : Nat) (a1 : Nat) (x3 : Int32) (g : GS) : Option (GS) :=
  wk_ g a0 12 <|
  wk_ (pI g a0 2 x3) a1 103 <|
  in_ x3 (gN (pI g a0 2 x3) a1) <|
  some (pR (pI g a0 2 x3) a1 x3.toNatClampNeg 0)
/-- java/util/ArrayList.fastRemove([Ljava/lang/Object;I)V -/
def J2_fastRemove (a0 : Nat) (a1 : Nat) (x2 : Int32) (g : GS) : Option (GS) :=
  wk_ g a0 12 <|
  if ((gI (pI g a0 0 ((gI g a0 0) + 1)) a0 2) - 1) ≤ x2 then
  J2_fastRemove_j34 a0 a1 ((gI (pI g a0 0 ((gI g a0 0) + 1)) a0 2) - 1) (pI g a0 0 ((gI g a0 0) + 1))
else
  rk_ (pI g a0 0 ((gI g a0 0) + 1)) a1 103 <|
    wk_ (pI g a0 0 ((gI g a0 0) + 1)) a1 103 <|
    gd_ (acR_ (pI g a0 0 ((gI g a0 0) + 1)) a1 (x2 + 1) a1 x2 (((gI (pI g a0 0 ((gI g a0 0) + 1)) a0 2) - 1) - x2)) <|
    J2_fastRemove_j34 a0 a1 ((gI (pI g a0 0 ((gI g a0 0) + 1)) a0 2) - 1) (cR_ (pI g a0 0 ((gI g a0 0) + 1)) a1 (x2 + 1).toNatClampNeg a1 x2.toNatClampNeg (((gI (pI g a0 0 ((gI g a0 0) + 1)) a0 2) - 1) - x2).toNatClampNeg)
/-- java/util/ArrayList.remove(I)Ljava/lang/Object; -/
def J2_remove (a0 : Nat) (x1 : Int32) (g : GS) : Option (Nat × GS) :=
  wk_ g a0 12 <|
  ob_ (J17_checkIndex x1 (gI g a0 2) g) fun r3 =>
  nn_ (gR g a0 1) fun b4 =>
  rk_ g b4 103 <|
  in_ x1 (gN g b4) <|
  nn_ (gR g b4 x1.toNatClampNeg) fun b8 =>
  ob_ (J2_fastRemove a0 b4 x1 g) fun g11 =>
  some (b8, g11)
/-- java/util/AbstractCollection.<init>()V -/
def J0_init (a0 : Nat) (g : GS) : Option (Unit) :=
  some ()
/-- java/util/AbstractList.<init>()V -/
def J1_init (a0 : Nat) (g : GS) : Option (GS) :=
  ob_ (J0_init a0 g) fun r2 =>
  wk_ g a0 12 <|
  some (pI g a0 0 0)
/-- java/util/ArrayList.<init>()V -/
def J2_init (a0 : Nat) (g : GS) : Option (GS) :=
  ob_ (J1_init a0 g) fun g2 =>
  nn_ (gS g2 1) fun b3 =>
  wk_ g2 a0 12 <|
  some (pR g2 a0 1 (b3 + 1))
/-- java/lang/Integer.intValue()I -/
def J19_intValue (a0 : Nat) (g : GS) : Option (Int32) :=
  rk_ g a0 14 <|
  some (gI g a0 0)
/-- java/lang/Integer.equals(Ljava/lang/Object;)Z -/
def J19_equals (a0 : Nat) (a1 : Nat) (g : GS) : Option (Int32) :=
  rk_ g a1 14 <|
  if (1 : Int32) = 0 then
  some 0
else
  rk_ g a0 14 <|
    ob_ (J19_intValue a1 g) fun r5 =>
    if (gI g a0 0) = r5 then
    some 1
  else
    some 0
def J2_indexOfRange_b42 (a1 : Nat) (x3 : Int32) (a4 : Nat) (g : GS) (x5 : Int32) : Option ((Int32) ⊕ (((Int32) ⊕ (Unit)))) :=
  if x3 ≤ x5 then
  some (.inr (.inr ()))
else
  rk_ g a4 103 <|
    in_ x5 (gN g a4) <|
    nn_ (gR g a4 x5.toNatClampNeg) fun b7 =>
    rk_ g a1 14 <|
    ob_ (J19_equals a1 b7 g) fun r11 =>
    if r11 = 0 then
    some (.inl (x5 + 1))
  else
    some (.inr (.inl x5))
/-- java/util/ArrayList.indexOfRange(Ljava/lang/Object;II)I -/
def J2_indexOfRange (a0 : Nat) (a1 : Nat) (x2 : Int32) (x3 : Int32) (g : GS) : Option (Int32) :=
  wk_ g a0 12 <|
  nn_ (gR g a0 1) fun b2 =>
  ob_ (lp_ (fun a => J2_indexOfRange_b42 a1 x3 b2 g a) fu_ x2) fun e13 =>
  Sum.elim (fun e13a => some e13a) (fun e13b => some (-1)) e13
/-- java/util/ArrayList.indexOf(Ljava/lang/Object;)I -/
def J2_indexOf (a0 : Nat) (a1 : Nat) (g : GS) : Option (Int32) :=
  wk_ g a0 12 <|
  ob_ (J2_indexOfRange a0 a1 0 (gI g a0 2) g) fun r3 =>
  some r3
/-- java/util/ArrayList.contains(Ljava/lang/Object;)Z -/
def J2_contains (a0 : Nat) (a1 : Nat) (g : GS) : Option (Int32) :=
  wk_ g a0 12 <|
  ob_ (J2_indexOf a0 a1 g) fun r3 =>
  if r3 < 0 then
  some 0
else
  some 1
/-- java/util/ArrayList.toArray()[Ljava/lang/Object; -/
def J2_toArray (a0 : Nat) (g : GS) : Option ((Nat × GS) × Nat × Nat) :=
  wk_ g a0 12 <|
  nn_ (gR g a0 1) fun b2 =>
  ca_ (J16_copyOf b2 (gI g a0 2) g) fun r6 g5 =>
  some ((r6, g5), 0, 0)
/-- java/util/ArrayList.<init>(Ljava/util/Collection;)V -/
def J2_init_2 (a0 : Nat) (a1 : Nat) (g : GS) : Option ((Unit × GS) × Nat × Nat) :=
  ob_ (J1_init a0 g) fun g2 =>
  wk_ g2 a1 12 <|
  ca_ (J2_toArray a1 g2) fun r6 g5 =>
  rk_ g5 r6 103 <|
  wk_ g5 a0 12 <|
  if (Int32.ofNat (gN g5 r6)) = 0 then
  nn_ (gS (pI g5 a0 2 (Int32.ofNat (gN g5 r6))) 2) fun b12 =>
    some (((), pR (pI g5 a0 2 (Int32.ofNat (gN g5 r6))) a0 1 (b12 + 1)), 0, 0)
else
  wk_ (pI g5 a0 2 (Int32.ofNat (gN g5 r6))) a1 12 <|
    if (gS (pI g5 a0 2 (Int32.ofNat (gN g5 r6))) 9) = (gS (pI g5 a0 2 (Int32.ofNat (gN g5 r6))) 9) then
    some (((), pR (pI g5 a0 2 (Int32.ofNat (gN g5 r6))) a0 1 (r6 + 1)), 0, 0)
  else
    ca_ (J16_copyOf_2 r6 (gI (pI g5 a0 2 (Int32.ofNat (gN g5 r6))) a0 2) (gS (pI g5 a0 2 (Int32.ofNat (gN g5 r6))) 8) (pI g5 a0 2 (Int32.ofNat (gN g5 r6)))) fun r18 g17 =>
      wk_ g17 a0 12 <|
      some (((), pR g17 a0 1 (r18 + 1)), 0, 0)
/-- java/lang/Number.<init>()V -/
def J18_init (a0 : Nat) (g : GS) : Option (Unit) :=
  some ()
/-- java/lang/Integer.<init>(I)V -/
def J19_init (a0 : Nat) (x1 : Int32) (g : GS) : Option (GS) :=
  ob_ (J18_init a0 g) fun r2 =>
  wk_ g a0 14 <|
  some (pI g a0 0 x1)
def J19_valueOf_j23 (x0 : Int32) (g : GS) : Option ((Nat × GS) × Nat × Nat) :=
  al_ g 14 1 fun u2 g3 =>
  ob_ (J19_init u2 x0 g3) fun g7 =>
  some ((u2, g7), 0, 0)
/-- java/lang/Integer.valueOf(I)Ljava/lang/Integer; -/
def J19_valueOf (x0 : Int32) (g : GS) : Option ((Nat × GS) × Nat × Nat) :=
  if x0 < (-128) then
  J19_valueOf_j23 x0 g
else
  if 127 < x0 then
    J19_valueOf_j23 x0 g
  else
    nn_ (gS g 0) fun b9 =>
      rk_ g b9 105 <|
      in_ (x0 + 128) (gN g b9) <|
      nn_ (gR g b9 (x0 + 128).toNatClampNeg) fun b13 =>
      some ((b13, g), 0, 0)
/-- java/lang/Integer.signum(I)I -/
def J19_signum (x0 : Int32) : Option (Int32) :=
  some ((x0 >>> ((31 : Int32) &&& 31)) ||| (((-x0).toUInt32 >>> ((31 : Int32).toUInt32 &&& Int32.toUInt32 31)).toInt32))
/-- java/lang/AbstractStringBuilder.<init>(I)V -/
def J13_init (a0 : Nat) (x1 : Int32) (g : GS) : Option ((Unit × GS) × Nat × Nat) :=
  if (1 : Int32) = 0 then
  none
else
  na_ x1 <|
    al_ g 101 x1.toNatClampNeg fun u2 g3 =>
    wk_ g3 a0 13 <|
    some (((), pI (pR g3 a0 0 (u2 + 1)) a0 1 0), 0, 0)
/-- java/lang/StringBuilder.<init>()V -/
def J14_init (a0 : Nat) (g : GS) : Option ((Unit × GS) × Nat × Nat) :=
  ca_ (J13_init a0 16 g) fun r3 g2 =>
  some (((), g2), 0, 0)
/-- java/lang/AbstractStringBuilder.newCapacity(I)I -/
def J13_newCapacity (a0 : Nat) (x1 : Int32) (g : GS) : Option ((Int32 × GS) × Nat × Nat) :=
  wk_ g a0 13 <|
  nn_ (gR g a0 0) fun b2 =>
  rk_ g b2 101 <|
  ob_ (J15_newLength (Int32.ofNat (gN g b2)) ((x1 <<< ((gI g a0 1) &&& 31)) - (Int32.ofNat (gN g b2))) ((Int32.ofNat (gN g b2)) + (2 <<< ((gI g a0 1) &&& 31)))) fun r6 =>
  if r6 = 2147483647 then
  none
else
  some ((r6 >>> ((gI g a0 1) &&& 31), g), 0, 0)
/-- java/util/Arrays.copyOf([BI)[B -/
def J16_copyOf_3 (a0 : Nat) (x1 : Int32) (g : GS) : Option ((Nat × GS) × Nat × Nat) :=
  rk_ g a0 101 <|
  if x1 = (Int32.ofNat (gN g a0)) then
  none
else
  na_ x1 <|
    al_ g 101 x1.toNatClampNeg fun u3 g4 =>
    rk_ g4 a0 101 <|
    gd_ (acB_ g4 a0 0 u3 0 (jmin_ (Int32.ofNat (gN g4 a0)) x1)) <|
    some ((u3, cI_ g4 a0 (0 : Int32).toNatClampNeg u3 (0 : Int32).toNatClampNeg (jmin_ (Int32.ofNat (gN g4 a0)) x1).toNatClampNeg), 0, 0)
/-- java/lang/AbstractStringBuilder.ensureCapacityInternal(I)V -/
def J13_ensureCapacityInternal (a0 : Nat) (x1 : Int32) (g : GS) : Option ((Unit × GS) × Nat × Nat) :=
  wk_ g a0 13 <|
  nn_ (gR g a0 0) fun b2 =>
  rk_ g b2 101 <|
  if (x1 - ((Int32.ofNat (gN g b2)) >>> ((gI g a0 1) &&& 31))) ≤ 0 then
  some (((), g), 0, 0)
else
  nn_ (gR g a0 0) fun b6 =>
    ca_ (J13_newCapacity a0 x1 g) fun r10 g9 =>
    wk_ g9 a0 13 <|
    ca_ (J16_copyOf_3 b6 (r10 <<< ((gI g9 a0 1) &&& 31)) g9) fun r16 g15 =>
    wk_ g15 a0 13 <|
    some (((), pR g15 a0 0 (r16 + 1)), 0, 0)
/-- java/lang/AbstractStringBuilder.isLatin1()Z -/
def J13_isLatin1 (a0 : Nat) (g : GS) : Option (Int32) :=
  if (1 : Int32) = 0 then
  some 0
else
  wk_ g a0 13 <|
    if (gI g a0 1) = 0 then
    some 1
  else
    some 0
/-- java/lang/StringLatin1.canEncode(C)Z -/
def J9_canEncode_2 (x0 : Int32) : Option (Int32) :=
  if 255 < x0 then
  some 0
else
  some 1
def J13_append_j56 (a0 : Nat) (x1 : Int32) (g : GS) : Option ((Nat × GS) × Nat × Nat) :=
  wk_ g a0 13 <|
  nn_ (gR g a0 0) fun b16 =>
  none
def J13_append_j45 (a0 : Nat) (x1 : Int32) (g : GS) : Option ((Nat × GS) × Nat × Nat) :=
  wk_ g a0 13 <|
  ob_ (J13_isLatin1 a0 g) fun r13 =>
  if r13 = 0 then
  J13_append_j56 a0 x1 g
else
  none
/-- java/lang/AbstractStringBuilder.append(C)Ljava/lang/AbstractStringBuilder; -/
def J13_append (a0 : Nat) (x1 : Int32) (g : GS) : Option ((Nat × GS) × Nat × Nat) :=
  wk_ g a0 13 <|
  ca_ (J13_ensureCapacityInternal a0 ((gI g a0 3) + 1) g) fun r4 g3 =>
  wk_ g3 a0 13 <|
  ob_ (J13_isLatin1 a0 g3) fun r9 =>
  if r9 = 0 then
  J13_append_j45 a0 x1 g3
else
  ob_ (J9_canEncode_2 x1) fun r19 =>
    if r19 = 0 then
    J13_append_j45 a0 x1 g3
  else
    nn_ (gR g3 a0 0) fun b21 =>
      wk_ (pI g3 a0 3 ((gI g3 a0 3) + 1)) b21 101 <|
      in_ (gI g3 a0 3) (gN (pI g3 a0 3 ((gI g3 a0 3) + 1)) b21) <|
      some ((a0, pI (pI g3 a0 3 ((gI g3 a0 3) + 1)) b21 (gI g3 a0 3).toNatClampNeg x1.toInt8.toInt32.toInt8.toInt32), 0, 0)
/-- java/lang/StringBuilder.append(C)Ljava/lang/StringBuilder; -/
def J14_append (a0 : Nat) (x1 : Int32) (g : GS) : Option ((Nat × GS) × Nat × Nat) :=
  wk_ g a0 13 <|
  ca_ (J13_append a0 x1 g) fun r4 g3 =>
  some ((a0, g3), 0, 0)
/-- java/lang/String.checkIndex(II)V -/
def J8_checkIndex (x0 : Int32) (x1 : Int32) (g : GS) : Option (Unit) :=
  nn_ (gS g 5) fun b1 =>
  ob_ (J11_checkIndex x0 x1 (b1 + 1) g) fun r4 =>
  some ()
/-- java/lang/AbstractStringBuilder.charAt(I)C -/
def J13_charAt (a0 : Nat) (x1 : Int32) (g : GS) : Option (Int32) :=
  wk_ g a0 13 <|
  nn_ (gR g a0 0) fun b2 =>
  rk_ g b2 101 <|
  ob_ (J8_checkIndex x1 (jmin_ (gI g a0 3) ((Int32.ofNat (gN g b2)) >>> ((gI g a0 1) &&& 31))) g) fun r6 =>
  if (gI g a0 1) = 0 then
  in_ x1 (gN g b2) <|
    some (zc_ ((((gI g b2 x1.toNatClampNeg) &&& 255).toUInt32 % 65536).toInt32))
else
  none
/-- java/lang/StringBuilder.charAt(I)C -/
def J14_charAt (a0 : Nat) (x1 : Int32) (g : GS) : Option (Int32) :=
  wk_ g a0 13 <|
  ob_ (J13_charAt a0 x1 g) fun r3 =>
  some (zc_ r3)
/-- java/lang/String.coder()B -/
def J8_coder (a0 : Nat) (g : GS) : Option (Int32) :=
  if (1 : Int32) = 0 then
  some 1
else
  rk_ g a0 200 <|
    some (zy_ (gI g a0 1))
/-- java/lang/String.length()I -/
def J8_length (a0 : Nat) (g : GS) : Option (Int32) :=
  rk_ g a0 200 <|
  nn_ (gR g a0 0) fun b2 =>
  rk_ g b2 101 <|
  ob_ (J8_coder a0 g) fun r6 =>
  some ((Int32.ofNat (gN g b2)) >>> (r6 &&& 31))
/-- java/lang/String.isLatin1()Z -/
def J8_isLatin1 (a0 : Nat) (g : GS) : Option (Int32) :=
  if (1 : Int32) = 0 then
  some 0
else
  rk_ g a0 200 <|
    if (gI g a0 1) = 0 then
    some 1
  else
    some 0
/-- java/lang/StringLatin1.charAt([BI)C -/
def J9_charAt (a0 : Nat) (x1 : Int32) (g : GS) : Option (Int32) :=
  rk_ g a0 101 <|
  ob_ (J8_checkIndex x1 (Int32.ofNat (gN g a0)) g) fun r3 =>
  in_ x1 (gN g a0) <|
  some (zc_ ((((gI g a0 x1.toNatClampNeg) &&& 255).toUInt32 % 65536).toInt32))
/-- java/lang/String.charAt(I)C -/
def J8_charAt (a0 : Nat) (x1 : Int32) (g : GS) : Option (Int32) :=
  rk_ g a0 200 <|
  ob_ (J8_isLatin1 a0 g) fun r3 =>
  if r3 = 0 then
  nn_ (gR g a0 0) fun b5 =>
    none
else
  nn_ (gR g a0 0) fun b7 =>
    ob_ (J9_charAt b7 x1 g) fun r10 =>
    some (zc_ r10)
/-- java/lang/StringLatin1.canEncode(I)Z -/
def J9_canEncode (x0 : Int32) : Option (Int32) :=
  if x0 < 0 then
  some 0
else
  if 255 < x0 then
    some 0
  else
    some 1
def J9_indexOfChar_b7 (a0 : Nat) (x3 : Int32) (x4 : Int32) (g : GS) (x5 : Int32) : Option ((Int32) ⊕ (((Int32) ⊕ (Unit)))) :=
  if x3 ≤ x5 then
  some (.inr (.inr ()))
else
  rk_ g a0 101 <|
    in_ x5 (gN g a0) <|
    if (gI g a0 x5.toNatClampNeg) = x4 then
    some (.inr (.inl x5))
  else
    some (.inl (x5 + 1))
/-- java/lang/StringLatin1.indexOfChar([BIII)I -/
def J9_indexOfChar (a0 : Nat) (x1 : Int32) (x2 : Int32) (x3 : Int32) (g : GS) : Option (Int32) :=
  ob_ (lp_ (fun a => J9_indexOfChar_b7 a0 x3 x1.toInt8.toInt32 g a) fu_ x2) fun e5 =>
  Sum.elim (fun e5a => some e5a) (fun e5b => some (-1)) e5
/-- java/lang/StringLatin1.indexOf([BIII)I -/
def J9_indexOf (a0 : Nat) (x1 : Int32) (x2 : Int32) (x3 : Int32) (g : GS) : Option (Int32) :=
  ob_ (J9_canEncode x1) fun r2 =>
  if r2 = 0 then
  some (-1)
else
  rk_ g a0 101 <|
    if (jmax_ x2 0) < (jmin_ x3 (Int32.ofNat (gN g a0))) then
    ob_ (J9_indexOfChar a0 x1 (jmax_ x2 0) (jmin_ x3 (Int32.ofNat (gN g a0))) g) fun r7 =>
      some r7
  else
    some (-1)
/-- java/lang/String.indexOf(II)I -/
def J8_indexOf_2 (a0 : Nat) (x1 : Int32) (x2 : Int32) (g : GS) : Option (Int32) :=
  rk_ g a0 200 <|
  ob_ (J8_isLatin1 a0 g) fun r3 =>
  if r3 = 0 then
  nn_ (gR g a0 0) fun b5 =>
    ob_ (J8_length a0 g) fun r8 =>
    none
else
  nn_ (gR g a0 0) fun b9 =>
    ob_ (J8_length a0 g) fun r12 =>
    ob_ (J9_indexOf b9 x1 x2 r12 g) fun r14 =>
    some r14
/-- java/lang/String.indexOf(I)I -/
def J8_indexOf (a0 : Nat) (x1 : Int32) (g : GS) : Option (Int32) :=
  rk_ g a0 200 <|
  ob_ (J8_indexOf_2 a0 x1 0 g) fun r3 =>
  some r3

/-! PURE, printed out of the bytecode by wip/D-98610w/gen/comp.py -/
set_option maxRecDepth 100000

/-- RingHand$Scene.go(II)V -/
def X2_go (a0 : Nat) (x1 : Int32) (x2 : Int32) (g : GS) : Option ((Unit × GS) × Nat × Nat) :=
  wk_ g a0 2 <|
  nn_ (gR g a0 0) fun b2 =>
  na_ 2 <|
  al_ g 100 ((2 : Int32).toNatClampNeg) fun u4 g5 =>
  in_ 0 (gN g5 u4) <|
  in_ 1 (gN (pI g5 u4 (0 : Int32).toNatClampNeg x1) u4) <|
  wk_ (pI (pI g5 u4 (0 : Int32).toNatClampNeg x1) u4 (1 : Int32).toNatClampNeg x2) b2 12 <|
  ca_ (J2_add b2 u4 (pI (pI g5 u4 (0 : Int32).toNatClampNeg x1) u4 (1 : Int32).toNatClampNeg x2)) fun r14 g13 =>
  wk_ g13 a0 2 <|
  some (((), pI g13 a0 6 ((gI g13 a0 6) + x2)), 0, 0)
/-- RingHand$Scene.end()I -/
def X2_end (a0 : Nat) (g : GS) : Option (Int32) :=
  wk_ g a0 2 <|
  nn_ (gR g a0 0) fun b2 =>
  wk_ g b2 12 <|
  ob_ (J2_isEmpty b2 g) fun r6 =>
  if r6 = 0 then
  nn_ (gR g a0 0) fun b8 =>
    nn_ (gR g a0 0) fun b10 =>
    wk_ g b10 12 <|
    ob_ (J2_size b10 g) fun r14 =>
    wk_ g b8 12 <|
    ob_ (J2_get b8 (r14 - 1) g) fun r17 =>
    rk_ g r17 100 <|
    in_ 0 (gN g r17) <|
    some (gI g r17 (0 : Int32).toNatClampNeg)
else
  some (gI g a0 5)
def X2_her_b10 (a0 : Nat) (g : GS) (x2 : Int32) (x3 : Int32) (x4 : Int32) : Option ((Int32 × Int32 × Int32) ⊕ (((Int32 × Int32 × Nat) ⊕ (Int32)))) :=
  wk_ g a0 2 <|
  nn_ (gR g a0 0) fun b3 =>
  wk_ g b3 12 <|
  ob_ (J2_size b3 g) fun r7 =>
  if r7 ≤ x4 then
  some (.inr (.inr x2))
else
  nn_ (gR g a0 0) fun b9 =>
    wk_ g b9 12 <|
    ob_ (J2_get b9 x4 g) fun r13 =>
    rk_ g r13 100 <|
    in_ 1 (gN g r13) <|
    if (gI g r13 (1 : Int32).toNatClampNeg) ≤ x3 then
    in_ 1 (gN g r13) <|
      in_ 0 (gN g r13) <|
      some (.inl (gI g r13 (0 : Int32).toNatClampNeg, x3 - (gI g r13 (1 : Int32).toNatClampNeg), x4 + 1))
  else
    some (.inr (.inl (x2, x3, r13)))
/-- RingHand$Scene.her(I)I -/
def X2_her (a0 : Nat) (x1 : Int32) (g : GS) : Option (Int32) :=
  wk_ g a0 2 <|
  ob_ (lp_ (fun a => X2_her_b10 a0 g a.1 a.2.1 a.2.2) fu_ (gI g a0 5, x1, 0)) fun e19 =>
  Sum.elim (fun e19a => rk_ g e19a.2.2 100 <|
  in_ 0 (gN g e19a.2.2) <|
  in_ 1 (gN g e19a.2.2) <|
  dv_ (gI g e19a.2.2 (1 : Int32).toNatClampNeg) <|
  some (e19a.1 + ((((gI g e19a.2.2 (0 : Int32).toNatClampNeg) - e19a.1) * e19a.2.1) / (gI g e19a.2.2 (1 : Int32).toNatClampNeg)))) (fun e19b => some e19b) e19
def X2_isHis_j61 (a0 : Nat) (x1 : Int32) (x2 : Int32) (x3 : Int32) (g : GS) : Option ((Int32 × Int32) ⊕ (Int32)) :=
  some (.inl (x2, x3 + 1))
def X2_isHis_j60 (a0 : Nat) (x1 : Int32) (x3 : Int32) (t0 : Int32) (g : GS) : Option ((Int32 × Int32) ⊕ (Int32)) :=
  X2_isHis_j61 a0 x1 t0 x3 g
def X2_isHis_b4 (a0 : Nat) (x1 : Int32) (g : GS) (x2 : Int32) (x3 : Int32) : Option ((Int32 × Int32) ⊕ (Int32)) :=
  wk_ g a0 2 <|
  nn_ (gR g a0 1) fun b2 =>
  wk_ g b2 12 <|
  ob_ (J2_size b2 g) fun r6 =>
  if r6 ≤ x3 then
  some (.inr x2)
else
  nn_ (gR g a0 1) fun b8 =>
    wk_ g b8 12 <|
    ob_ (J2_get b8 x3 g) fun r12 =>
    rk_ g r12 100 <|
    in_ 0 (gN g r12) <|
    if x1 < (gI g r12 (0 : Int32).toNatClampNeg) then
    X2_isHis_j61 a0 x1 x2 x3 g
  else
    nn_ (gR g a0 1) fun b16 =>
      wk_ g b16 12 <|
      ob_ (J2_get b16 x3 g) fun r20 =>
      rk_ g r20 100 <|
      in_ 1 (gN g r20) <|
      if (gI g r20 (1 : Int32).toNatClampNeg) = 1 then
      X2_isHis_j60 a0 x1 x3 1 g
    else
      X2_isHis_j60 a0 x1 x3 0 g
/-- RingHand$Scene.isHis(I)Z -/
def X2_isHis (a0 : Nat) (x1 : Int32) (g : GS) : Option (Int32) :=
  ob_ (lp_ (fun a => X2_isHis_b4 a0 x1 g a.1 a.2) fu_ (0, 0)) fun e24 =>
  some (zb_ e24)
def X2_places_j89 (a0 : Nat) (a1 : Nat) (x2 : Int32) (g : GS) : Option (((Int32 × GS) ⊕ (GS)) × Nat × Nat) :=
  some (.inl (x2 + 1, g), 0, 0)
def X2_places_b24 (a0 : Nat) (a1 : Nat) (x2 : Int32) (g : GS) : Option (((Int32 × GS) ⊕ (GS)) × Nat × Nat) :=
  wk_ g a0 2 <|
  nn_ (gR g a0 0) fun b20 =>
  wk_ g b20 12 <|
  ob_ (J2_size b20 g) fun r24 =>
  if r24 ≤ x2 then
  some (.inr g, 0, 0)
else
  nn_ (gR g a0 0) fun b26 =>
    wk_ g b26 12 <|
    ob_ (J2_get b26 x2 g) fun r30 =>
    rk_ g r30 100 <|
    in_ 0 (gN g r30) <|
    ca_ (J19_valueOf (gI g r30 (0 : Int32).toNatClampNeg) g) fun r35 g34 =>
    wk_ g34 a1 12 <|
    ob_ (J2_contains a1 r35 g34) fun r40 =>
    if r40 = 0 then
    wk_ g34 a0 2 <|
      nn_ (gR g34 a0 0) fun b43 =>
      wk_ g34 b43 12 <|
      ob_ (J2_get b43 x2 g34) fun r47 =>
      rk_ g34 r47 100 <|
      in_ 0 (gN g34 r47) <|
      ca_ (J19_valueOf (gI g34 r47 (0 : Int32).toNatClampNeg) g34) fun r52 g51 =>
      wk_ g51 a1 12 <|
      ca_ (J2_add a1 r52 g51) fun r58 g57 =>
      X2_places_j89 a0 a1 x2 g57
  else
    X2_places_j89 a0 a1 x2 g34
/-- RingHand$Scene.places()Ljava/util/List; -/
def X2_places (a0 : Nat) (g : GS) : Option ((Nat × GS) × Nat × Nat) :=
  al_ g 12 3 fun u1 g2 =>
  ob_ (J2_init u1 g2) fun g6 =>
  wk_ g6 a0 2 <|
  ca_ (J19_valueOf (gI g6 a0 5) g6) fun r10 g9 =>
  wk_ g9 u1 12 <|
  ca_ (J2_add u1 r10 g9) fun r16 g15 =>
  oa_ (la_ (fun a => X2_places_b24 a0 u1 a.1 a.2) fu_ (0, g15)) fun e61 =>
  some ((u1, e61), 0, 0)
/-- RingHand$Scene.<init>()V -/
def X2_init (a0 : Nat) (g : GS) : Option ((Unit × GS) × Nat × Nat) :=
  al_ g 12 3 fun u1 g2 =>
  ob_ (J2_init u1 g2) fun g6 =>
  wk_ g6 a0 2 <|
  al_ (pR g6 a0 0 (u1 + 1)) 12 3 fun u8 g9 =>
  ob_ (J2_init u8 g9) fun g13 =>
  wk_ g13 a0 2 <|
  al_ (pR g13 a0 1 (u8 + 1)) 12 3 fun u15 g16 =>
  ob_ (J2_init u15 g16) fun g20 =>
  wk_ g20 a0 2 <|
  some (((), pI (pR g20 a0 2 (u15 + 1)) a0 5 120), 0, 0)
/-- RingHand$Settings.<init>()V -/
def X3_init (a0 : Nat) (g : GS) : Option ((Unit × GS) × Nat × Nat) :=
  wk_ g a0 3 <|
  al_ (pI (pI (pI (pI g a0 0 3) a0 1 2) a0 2 20) a0 4 (-1)) 12 3 fun u2 g3 =>
  ob_ (J2_init u2 g3) fun g7 =>
  wk_ g7 a0 3 <|
  some (((), pR g7 a0 6 (u2 + 1)), 0, 0)
def X3_copy_b58 (a0 : Nat) (a1 : Nat) (x2 : Int32) (g : GS) : Option (((Int32 × GS) ⊕ (GS)) × Nat × Nat) :=
  wk_ g a0 3 <|
  nn_ (gR g a0 6) fun b13 =>
  wk_ g b13 12 <|
  ob_ (J2_size b13 g) fun r17 =>
  if r17 ≤ x2 then
  some (.inr g, 0, 0)
else
  wk_ g a1 3 <|
    nn_ (gR g a1 6) fun b20 =>
    nn_ (gR g a0 6) fun b22 =>
    wk_ g b22 12 <|
    ob_ (J2_get b22 x2 g) fun r26 =>
    rk_ g r26 14 <|
    wk_ g b20 12 <|
    ca_ (J2_add b20 r26 g) fun r31 g30 =>
    some (.inl (x2 + 1, g30), 0, 0)
/-- RingHand$Settings.copy()LRingHand$Settings; -/
def X3_copy (a0 : Nat) (g : GS) : Option ((Nat × GS) × Nat × Nat) :=
  al_ g 3 7 fun u1 g2 =>
  ca_ (X3_init u1 g2) fun r7 g6 =>
  wk_ g6 a0 3 <|
  wk_ g6 u1 3 <|
  oa_ (la_ (fun a => X3_copy_b58 a0 u1 a.1 a.2) fu_ (0, pI (pI (pI (pI (pI (pI g6 u1 0 (gI g6 a0 0)) u1 1 (gI (pI g6 u1 0 (gI g6 a0 0)) a0 1)) u1 2 (gI (pI (pI g6 u1 0 (gI g6 a0 0)) u1 1 (gI (pI g6 u1 0 (gI g6 a0 0)) a0 1)) a0 2)) u1 3 (gI (pI (pI (pI g6 u1 0 (gI g6 a0 0)) u1 1 (gI (pI g6 u1 0 (gI g6 a0 0)) a0 1)) u1 2 (gI (pI (pI g6 u1 0 (gI g6 a0 0)) u1 1 (gI (pI g6 u1 0 (gI g6 a0 0)) a0 1)) a0 2)) a0 3)) u1 4 (gI (pI (pI (pI (pI g6 u1 0 (gI g6 a0 0)) u1 1 (gI (pI g6 u1 0 (gI g6 a0 0)) a0 1)) u1 2 (gI (pI (pI g6 u1 0 (gI g6 a0 0)) u1 1 (gI (pI g6 u1 0 (gI g6 a0 0)) a0 1)) a0 2)) u1 3 (gI (pI (pI (pI g6 u1 0 (gI g6 a0 0)) u1 1 (gI (pI g6 u1 0 (gI g6 a0 0)) a0 1)) u1 2 (gI (pI (pI g6 u1 0 (gI g6 a0 0)) u1 1 (gI (pI g6 u1 0 (gI g6 a0 0)) a0 1)) a0 2)) a0 3)) a0 4)) u1 5 (gI (pI (pI (pI (pI (pI g6 u1 0 (gI g6 a0 0)) u1 1 (gI (pI g6 u1 0 (gI g6 a0 0)) a0 1)) u1 2 (gI (pI (pI g6 u1 0 (gI g6 a0 0)) u1 1 (gI (pI g6 u1 0 (gI g6 a0 0)) a0 1)) a0 2)) u1 3 (gI (pI (pI (pI g6 u1 0 (gI g6 a0 0)) u1 1 (gI (pI g6 u1 0 (gI g6 a0 0)) a0 1)) u1 2 (gI (pI (pI g6 u1 0 (gI g6 a0 0)) u1 1 (gI (pI g6 u1 0 (gI g6 a0 0)) a0 1)) a0 2)) a0 3)) u1 4 (gI (pI (pI (pI (pI g6 u1 0 (gI g6 a0 0)) u1 1 (gI (pI g6 u1 0 (gI g6 a0 0)) a0 1)) u1 2 (gI (pI (pI g6 u1 0 (gI g6 a0 0)) u1 1 (gI (pI g6 u1 0 (gI g6 a0 0)) a0 1)) a0 2)) u1 3 (gI (pI (pI (pI g6 u1 0 (gI g6 a0 0)) u1 1 (gI (pI g6 u1 0 (gI g6 a0 0)) a0 1)) u1 2 (gI (pI (pI g6 u1 0 (gI g6 a0 0)) u1 1 (gI (pI g6 u1 0 (gI g6 a0 0)) a0 1)) a0 2)) a0 3)) a0 4)) a0 5))) fun e34 =>
  some ((u1, e34), 0, 0)
def X3_isByMark_b2 (a0 : Nat) (x1 : Int32) (g : GS) (x2 : Int32) : Option ((Int32) ⊕ (((Unit) ⊕ (Unit)))) :=
  wk_ g a0 3 <|
  nn_ (gR g a0 6) fun b2 =>
  wk_ g b2 12 <|
  ob_ (J2_size b2 g) fun r6 =>
  if r6 ≤ x2 then
  some (.inr (.inr ()))
else
  nn_ (gR g a0 6) fun b8 =>
    wk_ g b8 12 <|
    ob_ (J2_get b8 x2 g) fun r12 =>
    rk_ g r12 14 <|
    ob_ (J19_intValue r12 g) fun r15 =>
    if 6 < (jabs_ (r15 - x1)) then
    some (.inl (x2 + 1))
  else
    some (.inr (.inl ()))
/-- RingHand$Settings.isByMark(I)Z -/
def X3_isByMark (a0 : Nat) (x1 : Int32) (g : GS) : Option (Int32) :=
  ob_ (lp_ (fun a => X3_isByMark_b2 a0 x1 g a) fu_ 0) fun e17 =>
  Sum.elim (fun e17a => some 1) (fun e17b => some 0) e17
/-- RingHand$Chain.<init>(LRingHand$Form;)V -/
def X7_init (a0 : Nat) (a1 : Nat) (g : GS) : Option ((Unit × GS) × Nat × Nat) :=
  al_ g 12 3 fun u1 g2 =>
  ob_ (J2_init u1 g2) fun g6 =>
  wk_ g6 a0 6 <|
  al_ (pR g6 a0 0 (u1 + 1)) 13 4 fun u8 g9 =>
  ca_ (J14_init u8 g9) fun r14 g13 =>
  wk_ g13 a0 6 <|
  nn_ (gR (pR g13 a0 1 (u8 + 1)) a0 0) fun b18 =>
  wk_ (pR g13 a0 1 (u8 + 1)) b18 12 <|
  ca_ (J2_add b18 a1 (pR g13 a0 1 (u8 + 1))) fun r23 g22 =>
  some (((), g22), 0, 0)
/-- RingHand$Chain.add(CLRingHand$Form;)V -/
def X7_add (a0 : Nat) (x1 : Int32) (a2 : Nat) (g : GS) : Option ((Unit × GS) × Nat × Nat) :=
  wk_ g a0 6 <|
  nn_ (gR g a0 1) fun b2 =>
  wk_ g b2 13 <|
  ca_ (J14_append b2 x1 g) fun r7 g6 =>
  wk_ g6 a0 6 <|
  nn_ (gR g6 a0 0) fun b11 =>
  wk_ g6 b11 12 <|
  ca_ (J2_add b11 a2 g6) fun r16 g15 =>
  some (((), g15), 0, 0)
/-- RingHand$Chain.plain()LRingHand$Form; -/
def X7_plain (a0 : Nat) (g : GS) : Option (Nat) :=
  wk_ g a0 6 <|
  nn_ (gR g a0 0) fun b2 =>
  wk_ g b2 12 <|
  ob_ (J2_size b2 g) fun r6 =>
  if r6 = 1 then
  nn_ (gR g a0 0) fun b8 =>
    wk_ g b8 12 <|
    ob_ (J2_get b8 0 g) fun r12 =>
    gd_ (g_isF (gK g r12)) <|
    some r12
else
  some a0
def X7_by_j180 : Option (Int32) :=
  some 1
/-- RingHand$Chain.by(CII)I -/
def X7_by (x0 : Int32) (x1 : Int32) (x2 : Int32) : Option (Int32) :=
  if x0 = 38 then
  if x1 = 0 then
    some 0
  else
    if x2 = 0 then
      some 0
    else
      some 1
else
  if x0 = 39 then
    if x1 = 0 then
      if x2 = 0 then
        some 0
      else
        X7_by_j180
    else
      X7_by_j180
  else
    if x0 = 40 then
      if x1 = 0 then
        if x2 = 0 then
          some 0
        else
          X7_by_j180
      else
        X7_by_j180
    else
      if x0 = 41 then
        if x1 = 0 then
          if x2 = 0 then
            some 0
          else
            X7_by_j180
        else
          X7_by_j180
      else
        if x0 = 42 then
          some (x1 * x2)
        else
          if x0 = 43 then
            some (x1 + x2)
          else
            if x0 = 44 then
              if x1 = 0 then
                if x2 = 0 then
                  some 0
                else
                  X7_by_j180
              else
                X7_by_j180
            else
              if x0 = 45 then
                some (x1 - x2)
              else
                if x0 = 46 then
                  if x1 = 0 then
                    if x2 = 0 then
                      some 0
                    else
                      X7_by_j180
                  else
                    X7_by_j180
                else
                  if x0 = 47 then
                    if x2 = 0 then
                      some 0
                    else
                      dv_ x2 <|
                        some (x1 / x2)
                  else
                    if x0 = 48 then
                      if x1 = 0 then
                        if x2 = 0 then
                          some 0
                        else
                          X7_by_j180
                      else
                        X7_by_j180
                    else
                      if x0 = 49 then
                        if x1 = 0 then
                          if x2 = 0 then
                            some 0
                          else
                            X7_by_j180
                        else
                          X7_by_j180
                      else
                        if x0 = 50 then
                          if x1 = 0 then
                            if x2 = 0 then
                              some 0
                            else
                              X7_by_j180
                          else
                            X7_by_j180
                        else
                          if x0 = 51 then
                            if x1 = 0 then
                              if x2 = 0 then
                                some 0
                              else
                                X7_by_j180
                            else
                              X7_by_j180
                          else
                            if x0 = 52 then
                              if x1 = 0 then
                                if x2 = 0 then
                                  some 0
                                else
                                  X7_by_j180
                              else
                                X7_by_j180
                            else
                              if x0 = 53 then
                                if x1 = 0 then
                                  if x2 = 0 then
                                    some 0
                                  else
                                    X7_by_j180
                                else
                                  X7_by_j180
                              else
                                if x0 = 54 then
                                  if x1 = 0 then
                                    if x2 = 0 then
                                      some 0
                                    else
                                      X7_by_j180
                                  else
                                    X7_by_j180
                                else
                                  if x0 = 55 then
                                    if x1 = 0 then
                                      if x2 = 0 then
                                        some 0
                                      else
                                        X7_by_j180
                                    else
                                      X7_by_j180
                                  else
                                    if x0 = 56 then
                                      if x1 = 0 then
                                        if x2 = 0 then
                                          some 0
                                        else
                                          X7_by_j180
                                      else
                                        X7_by_j180
                                    else
                                      if x0 = 57 then
                                        if x1 = 0 then
                                          if x2 = 0 then
                                            some 0
                                          else
                                            X7_by_j180
                                        else
                                          X7_by_j180
                                      else
                                        if x0 = 58 then
                                          if x1 = 0 then
                                            if x2 = 0 then
                                              some 0
                                            else
                                              X7_by_j180
                                          else
                                            X7_by_j180
                                        else
                                          if x0 = 59 then
                                            if x1 = 0 then
                                              if x2 = 0 then
                                                some 0
                                              else
                                                X7_by_j180
                                            else
                                              X7_by_j180
                                          else
                                            if x0 = 60 then
                                              if x2 ≤ x1 then
                                                some 0
                                              else
                                                some 1
                                            else
                                              if x0 = 61 then
                                                if x1 = x2 then
                                                  some 1
                                                else
                                                  some 0
                                              else
                                                if x1 = 0 then
                                                  if x2 = 0 then
                                                    some 0
                                                  else
                                                    X7_by_j180
                                                else
                                                  X7_by_j180
/-- RingHand$Number.<init>(I)V -/
def X8_init (a0 : Nat) (x1 : Int32) (g : GS) : Option (GS) :=
  wk_ g a0 7 <|
  some (pI g a0 0 x1)
/-- RingHand$Number.of([I)I -/
def X8_of (a0 : Nat) (a1 : Nat) (g : GS) : Option (Int32) :=
  wk_ g a0 7 <|
  some (gI g a0 0)
/-- RingHand$Value.<init>(I)V -/
def X9_init (a0 : Nat) (x1 : Int32) (g : GS) : Option (GS) :=
  wk_ g a0 8 <|
  some (pI g a0 0 x1)
/-- RingHand$Value.of([I)I -/
def X9_of (a0 : Nat) (a1 : Nat) (g : GS) : Option (Int32) :=
  wk_ g a0 8 <|
  rk_ g a1 100 <|
  in_ (gI g a0 0) (gN g a1) <|
  some (gI g a1 (gI g a0 0).toNatClampNeg)
/-- RingHand$Not.<init>(LRingHand$Form;)V -/
def X10_init (a0 : Nat) (a1 : Nat) (g : GS) : Option (GS) :=
  wk_ g a0 9 <|
  some (pR g a0 0 (a1 + 1))
def X7_of_b22 (rec : Nat → Nat → GS → Option Int32) (a0 : Nat) (a1 : Nat) (g : GS) (x2 : Int32) (x3 : Int32) : Option ((Int32 × Int32) ⊕ (Int32)) :=
  wk_ g a0 6 <|
  nn_ (gR g a0 0) fun b11 =>
  wk_ g b11 12 <|
  ob_ (J2_size b11 g) fun r15 =>
  if r15 ≤ x3 then
  some (.inr x2)
else
  nn_ (gR g a0 1) fun b17 =>
    wk_ g b17 13 <|
    ob_ (J14_charAt b17 (x3 - 1) g) fun r21 =>
    nn_ (gR g a0 0) fun b22 =>
    wk_ g b22 12 <|
    ob_ (J2_get b22 x3 g) fun r26 =>
    gd_ (g_isF (gK g r26)) <|
    ob_ (rec r26 a1 g) fun r28 =>
    ob_ (X7_by r21 x2 r28) fun r31 =>
    some (.inl (r31, x3 + 1))
/-- RingHand$Chain.of([I)I -/
def X7_of (rec : Nat → Nat → GS → Option Int32) (a0 : Nat) (a1 : Nat) (g : GS) : Option (Int32) :=
  wk_ g a0 6 <|
  nn_ (gR g a0 0) fun b2 =>
  wk_ g b2 12 <|
  ob_ (J2_get b2 0 g) fun r6 =>
  gd_ (g_isF (gK g r6)) <|
  ob_ (rec r6 a1 g) fun r8 =>
  ob_ (lp_ (fun a => X7_of_b22 rec a0 a1 g a.1 a.2) fu_ (r8, 1)) fun e32 =>
  some e32
/-- RingHand$Not.of([I)I -/
def X10_of (rec : Nat → Nat → GS → Option Int32) (a0 : Nat) (a1 : Nat) (g : GS) : Option (Int32) :=
  wk_ g a0 9 <|
  nn_ (gR g a0 0) fun b2 =>
  ob_ (rec b2 a1 g) fun r4 =>
  if r4 = 0 then
  some 1
else
  some 0

/-! FORM.of for any depth: the fuel ff_ (own work) -/
def ff_ : Nat := 200
def Fof_ : Nat → Nat → Nat → GS → Option Int32
  | 0, _, _, _ => none
  | n + 1, b, v, g => if gK g b = 6 then X7_of (Fof_ n) b v g else if gK g b = 7 then X8_of b v g else if gK g b = 8 then X9_of b v g else if gK g b = 9 then X10_of (Fof_ n) b v g else none
