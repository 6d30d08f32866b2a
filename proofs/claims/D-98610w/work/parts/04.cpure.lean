/-! PURE, printed out of the bytecode by wip/D-98610w/gen/comp.py -/
set_option maxRecDepth 100000

/-- RingHand.kept(III)I -/
def X1_kept (x0 : Int32) (x1 : Int32) (x2 : Int32) : Option (Int32) :=
  some (jmax_ x1 (jmin_ x2 x0))
/-- RingHand.turnOf(I)I -/
def X1_turnOf (a0 : Nat) (x1 : Int32) (g : GS) : Option (Int32 × GS) :=
  wk_ g a0 1 <|
  nn_ (gR g a0 0) fun b2 =>
  wk_ g b2 2 <|
  if (gR g b2 3) = 0 then
  dv_ x1 <|
    some (4320 / x1, g)
else
  nn_ (gR g a0 2) fun b6 =>
    wk_ g b6 100 <|
    in_ 0 (gN g b6) <|
    nn_ (gR (pI g b6 (0 : Int32).toNatClampNeg x1) a0 0) fun b10 =>
    wk_ (pI g b6 (0 : Int32).toNatClampNeg x1) b10 2 <|
    nn_ (gR (pI g b6 (0 : Int32).toNatClampNeg x1) b10 3) fun b13 =>
    nn_ (gR (pI g b6 (0 : Int32).toNatClampNeg x1) a0 2) fun b15 =>
    ob_ (Fof_ ff_ b13 b15 (pI g b6 (0 : Int32).toNatClampNeg x1)) fun r17 =>
    ob_ (X1_kept r17 0 999) fun r20 =>
    some (r20, pI g b6 (0 : Int32).toNatClampNeg x1)
/-- RingHand$Take.<init>(LRingHand;LRingHand$Settings;)V -/
def X11_init (a0 : Nat) (a1 : Nat) (a2 : Nat) (g : GS) : Option ((Unit × GS) × Nat × Nat) :=
  wk_ g a0 10 <|
  na_ 601 <|
  al_ (pR g a0 7 (a1 + 1)) 100 ((601 : Int32).toNatClampNeg) fun u2 g3 =>
  wk_ g3 a0 10 <|
  na_ 601 <|
  al_ (pR g3 a0 1 (u2 + 1)) 100 ((601 : Int32).toNatClampNeg) fun u8 g9 =>
  wk_ g9 a0 10 <|
  na_ 601 <|
  al_ (pR g9 a0 2 (u8 + 1)) 100 ((601 : Int32).toNatClampNeg) fun u14 g15 =>
  wk_ g15 a0 10 <|
  some (((), pR (pR g15 a0 3 (u14 + 1)) a0 0 (a2 + 1)), 0, 0)
/-- RingHand$Take.inches(IZ)I -/
def X11_inches (a0 : Nat) (x1 : Int32) (x2 : Int32) (g : GS) : Option (Int32) :=
  wk_ g a0 10 <|
  nn_ (gR g a0 7) fun b2 =>
  wk_ g b2 1 <|
  nn_ (gR g b2 0) fun b5 =>
  wk_ g b5 2 <|
  ob_ (X2_her b5 (jmax_ 0 (x1 - (gI g a0 4))) g) fun r9 =>
  if x2 = 0 then
  some r9
else
  nn_ (gR g a0 0) fun b11 =>
    wk_ g b11 3 <|
    some (jmin_ 480 (r9 + (gI g b11 5)))
/-- RingHand$Take.judged(I)I -/
def X11_judged (a0 : Nat) (x1 : Int32) (g : GS) : Option (Int32) :=
  wk_ g a0 10 <|
  nn_ (gR g a0 0) fun b2 =>
  wk_ g b2 3 <|
  ob_ (X3_isByMark b2 x1 g) fun r6 =>
  if r6 = 0 then
  nn_ (gR g a0 0) fun b8 =>
    wk_ g b8 3 <|
    dv_ 100 <|
    ob_ (X1_kept (x1 + ((x1 * (gI g b8 3)) / 100)) 12 480) fun r13 =>
    some r13
else
  some x1
def X11_goal_j142 (a0 : Nat) (t0 : Nat) (t1 : Int32) (t2 : Int32) (g : GS) : Option (Int32 × GS) :=
  wk_ g t0 100 <|
  in_ t1 (gN g t0) <|
  wk_ (pI g t0 t1.toNatClampNeg t2) a0 10 <|
  nn_ (gR (pI g t0 t1.toNatClampNeg t2) a0 7) fun b72 =>
  wk_ (pI g t0 t1.toNatClampNeg t2) b72 1 <|
  nn_ (gR (pI g t0 t1.toNatClampNeg t2) b72 0) fun b75 =>
  wk_ (pI g t0 t1.toNatClampNeg t2) b75 2 <|
  nn_ (gR (pI g t0 t1.toNatClampNeg t2) b75 2) fun b78 =>
  nn_ (gR (pI g t0 t1.toNatClampNeg t2) a0 0) fun b80 =>
  wk_ (pI g t0 t1.toNatClampNeg t2) b80 3 <|
  wk_ (pI g t0 t1.toNatClampNeg t2) b78 12 <|
  ob_ (J2_get b78 (gI (pI g t0 t1.toNatClampNeg t2) b80 4) (pI g t0 t1.toNatClampNeg t2)) fun r85 =>
  gd_ (g_isF (gK (pI g t0 t1.toNatClampNeg t2) r85)) <|
  nn_ (gR (pI g t0 t1.toNatClampNeg t2) a0 7) fun b87 =>
  wk_ (pI g t0 t1.toNatClampNeg t2) b87 1 <|
  nn_ (gR (pI g t0 t1.toNatClampNeg t2) b87 2) fun b90 =>
  ob_ (Fof_ ff_ r85 b90 (pI g t0 t1.toNatClampNeg t2)) fun r92 =>
  ob_ (X1_kept r92 0 999) fun r95 =>
  some (r95, pI g t0 t1.toNatClampNeg t2)
def X11_goal_j50 (a0 : Nat) (x1 : Int32) (x2 : Int32) (t0 : Int32) (g : GS) : Option (Int32 × GS) :=
  wk_ g a0 10 <|
  nn_ (gR g a0 0) fun b18 =>
  wk_ g b18 3 <|
  if (gI g b18 4) = (-1) then
  some (t0, g)
else
  nn_ (gR g a0 7) fun b22 =>
    wk_ g b22 1 <|
    nn_ (gR g b22 2) fun b25 =>
    wk_ g b25 100 <|
    in_ 0 (gN g b25) <|
    nn_ (gR (pI g b25 (0 : Int32).toNatClampNeg t0) a0 7) fun b29 =>
    wk_ (pI g b25 (0 : Int32).toNatClampNeg t0) b29 1 <|
    nn_ (gR (pI g b25 (0 : Int32).toNatClampNeg t0) b29 2) fun b32 =>
    nn_ (gR (pI g b25 (0 : Int32).toNatClampNeg t0) a0 1) fun b34 =>
    rk_ (pI g b25 (0 : Int32).toNatClampNeg t0) b34 100 <|
    in_ (x1 - 1) (gN (pI g b25 (0 : Int32).toNatClampNeg t0) b34) <|
    wk_ (pI g b25 (0 : Int32).toNatClampNeg t0) b32 100 <|
    in_ 1 (gN (pI g b25 (0 : Int32).toNatClampNeg t0) b32) <|
    nn_ (gR (pI (pI g b25 (0 : Int32).toNatClampNeg t0) b32 (1 : Int32).toNatClampNeg (gI (pI g b25 (0 : Int32).toNatClampNeg t0) b34 (x1 - 1).toNatClampNeg)) a0 7) fun b40 =>
    wk_ (pI (pI g b25 (0 : Int32).toNatClampNeg t0) b32 (1 : Int32).toNatClampNeg (gI (pI g b25 (0 : Int32).toNatClampNeg t0) b34 (x1 - 1).toNatClampNeg)) b40 1 <|
    nn_ (gR (pI (pI g b25 (0 : Int32).toNatClampNeg t0) b32 (1 : Int32).toNatClampNeg (gI (pI g b25 (0 : Int32).toNatClampNeg t0) b34 (x1 - 1).toNatClampNeg)) b40 2) fun b43 =>
    nn_ (gR (pI (pI g b25 (0 : Int32).toNatClampNeg t0) b32 (1 : Int32).toNatClampNeg (gI (pI g b25 (0 : Int32).toNatClampNeg t0) b34 (x1 - 1).toNatClampNeg)) a0 2) fun b45 =>
    rk_ (pI (pI g b25 (0 : Int32).toNatClampNeg t0) b32 (1 : Int32).toNatClampNeg (gI (pI g b25 (0 : Int32).toNatClampNeg t0) b34 (x1 - 1).toNatClampNeg)) b45 100 <|
    in_ (x1 - 1) (gN (pI (pI g b25 (0 : Int32).toNatClampNeg t0) b32 (1 : Int32).toNatClampNeg (gI (pI g b25 (0 : Int32).toNatClampNeg t0) b34 (x1 - 1).toNatClampNeg)) b45) <|
    wk_ (pI (pI g b25 (0 : Int32).toNatClampNeg t0) b32 (1 : Int32).toNatClampNeg (gI (pI g b25 (0 : Int32).toNatClampNeg t0) b34 (x1 - 1).toNatClampNeg)) b43 100 <|
    in_ 2 (gN (pI (pI g b25 (0 : Int32).toNatClampNeg t0) b32 (1 : Int32).toNatClampNeg (gI (pI g b25 (0 : Int32).toNatClampNeg t0) b34 (x1 - 1).toNatClampNeg)) b43) <|
    nn_ (gR (pI (pI (pI g b25 (0 : Int32).toNatClampNeg t0) b32 (1 : Int32).toNatClampNeg (gI (pI g b25 (0 : Int32).toNatClampNeg t0) b34 (x1 - 1).toNatClampNeg)) b43 (2 : Int32).toNatClampNeg (gI (pI (pI g b25 (0 : Int32).toNatClampNeg t0) b32 (1 : Int32).toNatClampNeg (gI (pI g b25 (0 : Int32).toNatClampNeg t0) b34 (x1 - 1).toNatClampNeg)) b45 (x1 - 1).toNatClampNeg)) a0 7) fun b51 =>
    wk_ (pI (pI (pI g b25 (0 : Int32).toNatClampNeg t0) b32 (1 : Int32).toNatClampNeg (gI (pI g b25 (0 : Int32).toNatClampNeg t0) b34 (x1 - 1).toNatClampNeg)) b43 (2 : Int32).toNatClampNeg (gI (pI (pI g b25 (0 : Int32).toNatClampNeg t0) b32 (1 : Int32).toNatClampNeg (gI (pI g b25 (0 : Int32).toNatClampNeg t0) b34 (x1 - 1).toNatClampNeg)) b45 (x1 - 1).toNatClampNeg)) b51 1 <|
    nn_ (gR (pI (pI (pI g b25 (0 : Int32).toNatClampNeg t0) b32 (1 : Int32).toNatClampNeg (gI (pI g b25 (0 : Int32).toNatClampNeg t0) b34 (x1 - 1).toNatClampNeg)) b43 (2 : Int32).toNatClampNeg (gI (pI (pI g b25 (0 : Int32).toNatClampNeg t0) b32 (1 : Int32).toNatClampNeg (gI (pI g b25 (0 : Int32).toNatClampNeg t0) b34 (x1 - 1).toNatClampNeg)) b45 (x1 - 1).toNatClampNeg)) b51 2) fun b54 =>
    wk_ (pI (pI (pI g b25 (0 : Int32).toNatClampNeg t0) b32 (1 : Int32).toNatClampNeg (gI (pI g b25 (0 : Int32).toNatClampNeg t0) b34 (x1 - 1).toNatClampNeg)) b43 (2 : Int32).toNatClampNeg (gI (pI (pI g b25 (0 : Int32).toNatClampNeg t0) b32 (1 : Int32).toNatClampNeg (gI (pI g b25 (0 : Int32).toNatClampNeg t0) b34 (x1 - 1).toNatClampNeg)) b45 (x1 - 1).toNatClampNeg)) b54 100 <|
    in_ 3 (gN (pI (pI (pI g b25 (0 : Int32).toNatClampNeg t0) b32 (1 : Int32).toNatClampNeg (gI (pI g b25 (0 : Int32).toNatClampNeg t0) b34 (x1 - 1).toNatClampNeg)) b43 (2 : Int32).toNatClampNeg (gI (pI (pI g b25 (0 : Int32).toNatClampNeg t0) b32 (1 : Int32).toNatClampNeg (gI (pI g b25 (0 : Int32).toNatClampNeg t0) b34 (x1 - 1).toNatClampNeg)) b45 (x1 - 1).toNatClampNeg)) b54) <|
    nn_ (gR (pI (pI (pI (pI g b25 (0 : Int32).toNatClampNeg t0) b32 (1 : Int32).toNatClampNeg (gI (pI g b25 (0 : Int32).toNatClampNeg t0) b34 (x1 - 1).toNatClampNeg)) b43 (2 : Int32).toNatClampNeg (gI (pI (pI g b25 (0 : Int32).toNatClampNeg t0) b32 (1 : Int32).toNatClampNeg (gI (pI g b25 (0 : Int32).toNatClampNeg t0) b34 (x1 - 1).toNatClampNeg)) b45 (x1 - 1).toNatClampNeg)) b54 (3 : Int32).toNatClampNeg x1) a0 7) fun b58 =>
    wk_ (pI (pI (pI (pI g b25 (0 : Int32).toNatClampNeg t0) b32 (1 : Int32).toNatClampNeg (gI (pI g b25 (0 : Int32).toNatClampNeg t0) b34 (x1 - 1).toNatClampNeg)) b43 (2 : Int32).toNatClampNeg (gI (pI (pI g b25 (0 : Int32).toNatClampNeg t0) b32 (1 : Int32).toNatClampNeg (gI (pI g b25 (0 : Int32).toNatClampNeg t0) b34 (x1 - 1).toNatClampNeg)) b45 (x1 - 1).toNatClampNeg)) b54 (3 : Int32).toNatClampNeg x1) b58 1 <|
    nn_ (gR (pI (pI (pI (pI g b25 (0 : Int32).toNatClampNeg t0) b32 (1 : Int32).toNatClampNeg (gI (pI g b25 (0 : Int32).toNatClampNeg t0) b34 (x1 - 1).toNatClampNeg)) b43 (2 : Int32).toNatClampNeg (gI (pI (pI g b25 (0 : Int32).toNatClampNeg t0) b32 (1 : Int32).toNatClampNeg (gI (pI g b25 (0 : Int32).toNatClampNeg t0) b34 (x1 - 1).toNatClampNeg)) b45 (x1 - 1).toNatClampNeg)) b54 (3 : Int32).toNatClampNeg x1) b58 2) fun b61 =>
    nn_ (gR (pI (pI (pI (pI g b25 (0 : Int32).toNatClampNeg t0) b32 (1 : Int32).toNatClampNeg (gI (pI g b25 (0 : Int32).toNatClampNeg t0) b34 (x1 - 1).toNatClampNeg)) b43 (2 : Int32).toNatClampNeg (gI (pI (pI g b25 (0 : Int32).toNatClampNeg t0) b32 (1 : Int32).toNatClampNeg (gI (pI g b25 (0 : Int32).toNatClampNeg t0) b34 (x1 - 1).toNatClampNeg)) b45 (x1 - 1).toNatClampNeg)) b54 (3 : Int32).toNatClampNeg x1) a0 0) fun b63 =>
    wk_ (pI (pI (pI (pI g b25 (0 : Int32).toNatClampNeg t0) b32 (1 : Int32).toNatClampNeg (gI (pI g b25 (0 : Int32).toNatClampNeg t0) b34 (x1 - 1).toNatClampNeg)) b43 (2 : Int32).toNatClampNeg (gI (pI (pI g b25 (0 : Int32).toNatClampNeg t0) b32 (1 : Int32).toNatClampNeg (gI (pI g b25 (0 : Int32).toNatClampNeg t0) b34 (x1 - 1).toNatClampNeg)) b45 (x1 - 1).toNatClampNeg)) b54 (3 : Int32).toNatClampNeg x1) b63 3 <|
    ob_ (X3_isByMark b63 x2 (pI (pI (pI (pI g b25 (0 : Int32).toNatClampNeg t0) b32 (1 : Int32).toNatClampNeg (gI (pI g b25 (0 : Int32).toNatClampNeg t0) b34 (x1 - 1).toNatClampNeg)) b43 (2 : Int32).toNatClampNeg (gI (pI (pI g b25 (0 : Int32).toNatClampNeg t0) b32 (1 : Int32).toNatClampNeg (gI (pI g b25 (0 : Int32).toNatClampNeg t0) b34 (x1 - 1).toNatClampNeg)) b45 (x1 - 1).toNatClampNeg)) b54 (3 : Int32).toNatClampNeg x1)) fun r67 =>
    if r67 = 0 then
    X11_goal_j142 a0 b61 4 0 (pI (pI (pI (pI g b25 (0 : Int32).toNatClampNeg t0) b32 (1 : Int32).toNatClampNeg (gI (pI g b25 (0 : Int32).toNatClampNeg t0) b34 (x1 - 1).toNatClampNeg)) b43 (2 : Int32).toNatClampNeg (gI (pI (pI g b25 (0 : Int32).toNatClampNeg t0) b32 (1 : Int32).toNatClampNeg (gI (pI g b25 (0 : Int32).toNatClampNeg t0) b34 (x1 - 1).toNatClampNeg)) b45 (x1 - 1).toNatClampNeg)) b54 (3 : Int32).toNatClampNeg x1)
  else
    X11_goal_j142 a0 b61 4 1 (pI (pI (pI (pI g b25 (0 : Int32).toNatClampNeg t0) b32 (1 : Int32).toNatClampNeg (gI (pI g b25 (0 : Int32).toNatClampNeg t0) b34 (x1 - 1).toNatClampNeg)) b43 (2 : Int32).toNatClampNeg (gI (pI (pI g b25 (0 : Int32).toNatClampNeg t0) b32 (1 : Int32).toNatClampNeg (gI (pI g b25 (0 : Int32).toNatClampNeg t0) b34 (x1 - 1).toNatClampNeg)) b45 (x1 - 1).toNatClampNeg)) b54 (3 : Int32).toNatClampNeg x1)
/-- RingHand$Take.goal(II)I -/
def X11_goal (a0 : Nat) (x1 : Int32) (x2 : Int32) (g : GS) : Option (Int32 × GS) :=
  wk_ g a0 10 <|
  if (gI g a0 5) = 0 then
  nn_ (gR g a0 1) fun b96 =>
    rk_ g b96 100 <|
    in_ x1 (gN g b96) <|
    X11_goal_j50 a0 x1 x2 (gI g b96 x1.toNatClampNeg) g
else
  nn_ (gR g a0 1) fun b3 =>
    rk_ g b3 100 <|
    in_ x1 (gN g b3) <|
    nn_ (gR g a0 1) fun b7 =>
    rk_ g b7 100 <|
    in_ x1 (gN g b7) <|
    nn_ (gR g a0 1) fun b11 =>
    rk_ g b11 100 <|
    in_ (x1 - 1) (gN g b11) <|
    ob_ (X1_kept ((gI g b3 x1.toNatClampNeg) + ((gI g a0 5) * ((gI g b7 x1.toNatClampNeg) - (gI g b11 (x1 - 1).toNatClampNeg)))) 0 999) fun r16 =>
    X11_goal_j50 a0 x1 x2 r16 g
def X11_run_j152 (a0 : Nat) (x1 : Int32) (x3 : Int32) (t0 : Nat) (t1 : Int32) (t2 : Int32) (g : GS) : Option ((Int32 × GS) ⊕ (GS)) :=
  wk_ g t0 100 <|
  in_ t1 (gN g t0) <|
  wk_ (pI g t0 t1.toNatClampNeg t2) a0 10 <|
  nn_ (gR (pI g t0 t1.toNatClampNeg t2) a0 3) fun b78 =>
  nn_ (gR (pI g t0 t1.toNatClampNeg t2) a0 2) fun b80 =>
  rk_ (pI g t0 t1.toNatClampNeg t2) b80 100 <|
  in_ x1 (gN (pI g t0 t1.toNatClampNeg t2) b80) <|
  wk_ (pI g t0 t1.toNatClampNeg t2) b78 100 <|
  in_ x1 (gN (pI g t0 t1.toNatClampNeg t2) b78) <|
  some (.inl (x1 + 1, pI (pI g t0 t1.toNatClampNeg t2) b78 x1.toNatClampNeg (x3 - (gI (pI g t0 t1.toNatClampNeg t2) b80 x1.toNatClampNeg))))
def X11_run_b2 (a0 : Nat) (x1 : Int32) (g : GS) : Option ((Int32 × GS) ⊕ (GS)) :=
  wk_ g a0 10 <|
  nn_ (gR g a0 7) fun b2 =>
  wk_ g b2 1 <|
  nn_ (gR g b2 0) fun b5 =>
  wk_ g b5 2 <|
  if (gI g b5 6) < x1 then
  some (.inr g)
else
  nn_ (gR g a0 7) fun b9 =>
    wk_ g b9 1 <|
    nn_ (gR g b9 0) fun b12 =>
    wk_ g b12 2 <|
    ob_ (X2_isHis b12 (x1 - (gI g a0 6)) g) fun r16 =>
    nn_ (gR g a0 7) fun b17 =>
    nn_ (gR g a0 7) fun b19 =>
    wk_ g b19 1 <|
    nn_ (gR g b19 0) fun b22 =>
    wk_ g b22 2 <|
    ob_ (X2_isHis b22 x1 g) fun r26 =>
    ob_ (X11_inches a0 x1 r26 g) fun r28 =>
    wk_ g b17 1 <|
    cb_ (X1_turnOf b17 r28 g) fun r32 g31 =>
    wk_ g31 a0 10 <|
    nn_ (gR g31 a0 0) fun b34 =>
    wk_ g31 b34 3 <|
    ob_ (X11_inches a0 (jmax_ 0 (x1 - (gI g31 b34 1))) r16 g31) fun r38 =>
    nn_ (gR g31 a0 1) fun b39 =>
    nn_ (gR g31 a0 7) fun b41 =>
    ob_ (X11_judged a0 r38 g31) fun r44 =>
    wk_ g31 b41 1 <|
    cb_ (X1_turnOf b41 r44 g31) fun r48 g47 =>
    wk_ g47 b39 100 <|
    in_ x1 (gN g47 b39) <|
    wk_ (pI g47 b39 x1.toNatClampNeg r48) a0 10 <|
    nn_ (gR (pI g47 b39 x1.toNatClampNeg r48) a0 2) fun b52 =>
    if x1 = 0 then
    X11_run_j152 a0 x1 r32 b52 x1 r32 (pI g47 b39 x1.toNatClampNeg r48)
  else
    nn_ (gR (pI g47 b39 x1.toNatClampNeg r48) a0 2) fun b55 =>
      rk_ (pI g47 b39 x1.toNatClampNeg r48) b55 100 <|
      in_ (x1 - 1) (gN (pI g47 b39 x1.toNatClampNeg r48) b55) <|
      cb_ (X11_goal a0 x1 r38 (pI g47 b39 x1.toNatClampNeg r48)) fun r61 g60 =>
      wk_ g60 a0 10 <|
      nn_ (gR g60 a0 2) fun b63 =>
      rk_ g60 b63 100 <|
      in_ (x1 - 1) (gN g60 b63) <|
      nn_ (gR g60 a0 0) fun b67 =>
      wk_ g60 b67 3 <|
      nn_ (gR g60 a0 0) fun b70 =>
      wk_ g60 b70 3 <|
      ob_ (X1_kept (r61 - (gI g60 b63 (x1 - 1).toNatClampNeg)) (-(gI g60 b67 2)) (gI g60 b70 2)) fun r74 =>
      X11_run_j152 a0 x1 r32 b52 x1 ((gI (pI g47 b39 x1.toNatClampNeg r48) b55 (x1 - 1).toNatClampNeg) + r74) g60
/-- RingHand$Take.run()LRingHand$Take; -/
def X11_run (a0 : Nat) (g : GS) : Option (Nat × GS) :=
  ob_ (lp_ (fun a => X11_run_b2 a0 a.1 a.2) fu_ (0, g)) fun e86 =>
  some (a0, e86)
/-- RingHand$Take.isSharp(II)Z -/
def X11_isSharp (a0 : Nat) (x1 : Int32) (x2 : Int32) (g : GS) : Option (Int32) :=
  wk_ g a0 10 <|
  nn_ (gR g a0 3) fun b2 =>
  rk_ g b2 100 <|
  in_ x1 (gN g b2) <|
  if x2 < (jabs_ (gI g b2 x1.toNatClampNeg)) then
  some 0
else
  some 1
def X11_sharp_2_j30 (a0 : Nat) (x1 : Int32) (x2 : Int32) (x3 : Int32) (g : GS) : Option ((Int32 × Int32) ⊕ (Int32)) :=
  some (.inl (x2, x3 + 1))
def X11_sharp_2_b4 (a0 : Nat) (x1 : Int32) (g : GS) (x2 : Int32) (x3 : Int32) : Option ((Int32 × Int32) ⊕ (Int32)) :=
  wk_ g a0 10 <|
  nn_ (gR g a0 7) fun b2 =>
  wk_ g b2 1 <|
  nn_ (gR g b2 0) fun b5 =>
  wk_ g b5 2 <|
  if (gI g b5 6) < x3 then
  some (.inr x2)
else
  ob_ (X11_isSharp a0 x3 x1 g) fun r10 =>
    if r10 = 0 then
    X11_sharp_2_j30 a0 x1 x2 x3 g
  else
    X11_sharp_2_j30 a0 x1 (x2 + 1) x3 g
/-- RingHand$Take.sharp(I)I -/
def X11_sharp_2 (a0 : Nat) (x1 : Int32) (g : GS) : Option (Int32) :=
  ob_ (lp_ (fun a => X11_sharp_2_b4 a0 x1 g a.1 a.2) fu_ (0, 0)) fun e12 =>
  some e12
/-- RingHand$Take.sharp()I -/
def X11_sharp (a0 : Nat) (g : GS) : Option (Int32) :=
  wk_ g a0 10 <|
  nn_ (gR g a0 0) fun b2 =>
  wk_ g b2 3 <|
  ob_ (X11_sharp_2 a0 (gI g b2 0) g) fun r6 =>
  some r6
def X11_worst_b4 (a0 : Nat) (g : GS) (x1 : Int32) (x2 : Int32) : Option ((Int32 × Int32) ⊕ (Int32)) :=
  wk_ g a0 10 <|
  nn_ (gR g a0 7) fun b2 =>
  wk_ g b2 1 <|
  nn_ (gR g b2 0) fun b5 =>
  wk_ g b5 2 <|
  if (gI g b5 6) < x2 then
  some (.inr x1)
else
  nn_ (gR g a0 3) fun b9 =>
    rk_ g b9 100 <|
    in_ x2 (gN g b9) <|
    some (.inl (jmax_ x1 (jabs_ (gI g b9 x2.toNatClampNeg)), x2 + 1))
/-- RingHand$Take.worst()I -/
def X11_worst (a0 : Nat) (g : GS) : Option (Int32) :=
  ob_ (lp_ (fun a => X11_worst_b4 a0 g a.1 a.2) fu_ (0, 0)) fun e13 =>
  some e13
/-- RingHand$Take.isSharp(I)Z -/
def X11_isSharp_2 (a0 : Nat) (x1 : Int32) (g : GS) : Option (Int32) :=
  wk_ g a0 10 <|
  nn_ (gR g a0 0) fun b2 =>
  wk_ g b2 3 <|
  ob_ (X11_isSharp a0 x1 (gI g b2 0) g) fun r6 =>
  some (zb_ r6)
def X11_longestSoft_j35 (a0 : Nat) (x1 : Int32) (x3 : Int32) (t0 : Int32) (g : GS) : Option ((Int32 × Int32 × Int32) ⊕ (Int32)) :=
  some (.inl (jmax_ x1 t0, t0, x3 + 1))
def X11_longestSoft_b6 (a0 : Nat) (g : GS) (x1 : Int32) (x2 : Int32) (x3 : Int32) : Option ((Int32 × Int32 × Int32) ⊕ (Int32)) :=
  wk_ g a0 10 <|
  nn_ (gR g a0 7) fun b2 =>
  wk_ g b2 1 <|
  nn_ (gR g b2 0) fun b5 =>
  wk_ g b5 2 <|
  if (gI g b5 6) < x3 then
  some (.inr x1)
else
  ob_ (X11_isSharp_2 a0 x3 g) fun r10 =>
    if r10 = 0 then
    X11_longestSoft_j35 a0 x1 x3 (x2 + 1) g
  else
    X11_longestSoft_j35 a0 x1 x3 0 g
/-- RingHand$Take.longestSoft()I -/
def X11_longestSoft (a0 : Nat) (g : GS) : Option (Int32) :=
  ob_ (lp_ (fun a => X11_longestSoft_b6 a0 g a.1 a.2.1 a.2.2) fu_ (0, 0, 0)) fun e12 =>
  some e12
def X11_firstSoft_b2 (a0 : Nat) (g : GS) (x1 : Int32) : Option ((Int32) ⊕ (((Int32) ⊕ (Unit)))) :=
  wk_ g a0 10 <|
  nn_ (gR g a0 7) fun b2 =>
  wk_ g b2 1 <|
  nn_ (gR g b2 0) fun b5 =>
  wk_ g b5 2 <|
  if (gI g b5 6) < x1 then
  some (.inr (.inr ()))
else
  ob_ (X11_isSharp_2 a0 x1 g) fun r10 =>
    if r10 = 0 then
    some (.inr (.inl x1))
  else
    some (.inl (x1 + 1))
/-- RingHand$Take.firstSoft()I -/
def X11_firstSoft (a0 : Nat) (g : GS) : Option (Int32) :=
  ob_ (lp_ (fun a => X11_firstSoft_b2 a0 g a) fu_ 0) fun e12 =>
  Sum.elim (fun e12a => some e12a) (fun e12b => some (-1)) e12
def X11_swings_j52 (a0 : Nat) (x1 : Int32) (x2 : Int32) (x3 : Int32) (g : GS) : Option ((Int32 × Int32 × Int32) ⊕ (Int32)) :=
  some (.inl (x1, x2, x3 + 1))
def X11_swings_j49 (a0 : Nat) (x1 : Int32) (x3 : Int32) (x4 : Int32) (g : GS) : Option ((Int32 × Int32 × Int32) ⊕ (Int32)) :=
  X11_swings_j52 a0 x1 x4 x3 g
def X11_swings_b6 (a0 : Nat) (g : GS) (x1 : Int32) (x2 : Int32) (x3 : Int32) : Option ((Int32 × Int32 × Int32) ⊕ (Int32)) :=
  wk_ g a0 10 <|
  nn_ (gR g a0 7) fun b2 =>
  wk_ g b2 1 <|
  nn_ (gR g b2 0) fun b5 =>
  wk_ g b5 2 <|
  if (gI g b5 6) < x3 then
  some (.inr x1)
else
  nn_ (gR g a0 3) fun b9 =>
    rk_ g b9 100 <|
    in_ x3 (gN g b9) <|
    ob_ (J19_signum (gI g b9 x3.toNatClampNeg)) fun r14 =>
    if r14 = 0 then
    X11_swings_j52 a0 x1 x2 x3 g
  else
    if x2 = (-r14) then
      X11_swings_j49 a0 (x1 + 1) x3 r14 g
    else
      X11_swings_j49 a0 x1 x3 r14 g
/-- RingHand$Take.swings()I -/
def X11_swings (a0 : Nat) (g : GS) : Option (Int32) :=
  ob_ (lp_ (fun a => X11_swings_b6 a0 g a.1 a.2.1 a.2.2) fu_ (0, 0, 0)) fun e17 =>
  some e17
/-- RingHand$Take.shows(I)Z -/
def X11_shows (a0 : Nat) (x1 : Int32) (g : GS) : Option (Int32 × GS) :=
  wk_ g a0 10 <|
  ob_ (X11_isSharp_2 a0 x1 g) fun r3 =>
  if r3 = 0 then
  nn_ (gR g a0 7) fun b5 =>
    wk_ g b5 1 <|
    nn_ (gR g b5 0) fun b8 =>
    wk_ g b8 2 <|
    if (gR g b8 4) = 0 then
    some (1, g)
  else
    nn_ (gR g a0 7) fun b12 =>
      wk_ g b12 1 <|
      nn_ (gR g b12 2) fun b15 =>
      nn_ (gR g a0 3) fun b17 =>
      rk_ g b17 100 <|
      in_ x1 (gN g b17) <|
      wk_ g b15 100 <|
      in_ 0 (gN g b15) <|
      nn_ (gR (pI g b15 (0 : Int32).toNatClampNeg (jabs_ (gI g b17 x1.toNatClampNeg))) a0 7) fun b23 =>
      wk_ (pI g b15 (0 : Int32).toNatClampNeg (jabs_ (gI g b17 x1.toNatClampNeg))) b23 1 <|
      nn_ (gR (pI g b15 (0 : Int32).toNatClampNeg (jabs_ (gI g b17 x1.toNatClampNeg))) b23 2) fun b26 =>
      nn_ (gR (pI g b15 (0 : Int32).toNatClampNeg (jabs_ (gI g b17 x1.toNatClampNeg))) a0 0) fun b28 =>
      wk_ (pI g b15 (0 : Int32).toNatClampNeg (jabs_ (gI g b17 x1.toNatClampNeg))) b28 3 <|
      wk_ (pI g b15 (0 : Int32).toNatClampNeg (jabs_ (gI g b17 x1.toNatClampNeg))) b26 100 <|
      in_ 1 (gN (pI g b15 (0 : Int32).toNatClampNeg (jabs_ (gI g b17 x1.toNatClampNeg))) b26) <|
      nn_ (gR (pI (pI g b15 (0 : Int32).toNatClampNeg (jabs_ (gI g b17 x1.toNatClampNeg))) b26 (1 : Int32).toNatClampNeg (gI (pI g b15 (0 : Int32).toNatClampNeg (jabs_ (gI g b17 x1.toNatClampNeg))) b28 0)) a0 7) fun b33 =>
      wk_ (pI (pI g b15 (0 : Int32).toNatClampNeg (jabs_ (gI g b17 x1.toNatClampNeg))) b26 (1 : Int32).toNatClampNeg (gI (pI g b15 (0 : Int32).toNatClampNeg (jabs_ (gI g b17 x1.toNatClampNeg))) b28 0)) b33 1 <|
      nn_ (gR (pI (pI g b15 (0 : Int32).toNatClampNeg (jabs_ (gI g b17 x1.toNatClampNeg))) b26 (1 : Int32).toNatClampNeg (gI (pI g b15 (0 : Int32).toNatClampNeg (jabs_ (gI g b17 x1.toNatClampNeg))) b28 0)) b33 2) fun b36 =>
      nn_ (gR (pI (pI g b15 (0 : Int32).toNatClampNeg (jabs_ (gI g b17 x1.toNatClampNeg))) b26 (1 : Int32).toNatClampNeg (gI (pI g b15 (0 : Int32).toNatClampNeg (jabs_ (gI g b17 x1.toNatClampNeg))) b28 0)) a0 7) fun b38 =>
      wk_ (pI (pI g b15 (0 : Int32).toNatClampNeg (jabs_ (gI g b17 x1.toNatClampNeg))) b26 (1 : Int32).toNatClampNeg (gI (pI g b15 (0 : Int32).toNatClampNeg (jabs_ (gI g b17 x1.toNatClampNeg))) b28 0)) b38 1 <|
      nn_ (gR (pI (pI g b15 (0 : Int32).toNatClampNeg (jabs_ (gI g b17 x1.toNatClampNeg))) b26 (1 : Int32).toNatClampNeg (gI (pI g b15 (0 : Int32).toNatClampNeg (jabs_ (gI g b17 x1.toNatClampNeg))) b28 0)) b38 0) fun b41 =>
      wk_ (pI (pI g b15 (0 : Int32).toNatClampNeg (jabs_ (gI g b17 x1.toNatClampNeg))) b26 (1 : Int32).toNatClampNeg (gI (pI g b15 (0 : Int32).toNatClampNeg (jabs_ (gI g b17 x1.toNatClampNeg))) b28 0)) b41 2 <|
      ob_ (X2_isHis b41 x1 (pI (pI g b15 (0 : Int32).toNatClampNeg (jabs_ (gI g b17 x1.toNatClampNeg))) b26 (1 : Int32).toNatClampNeg (gI (pI g b15 (0 : Int32).toNatClampNeg (jabs_ (gI g b17 x1.toNatClampNeg))) b28 0))) fun r45 =>
      ob_ (X11_inches a0 x1 r45 (pI (pI g b15 (0 : Int32).toNatClampNeg (jabs_ (gI g b17 x1.toNatClampNeg))) b26 (1 : Int32).toNatClampNeg (gI (pI g b15 (0 : Int32).toNatClampNeg (jabs_ (gI g b17 x1.toNatClampNeg))) b28 0))) fun r47 =>
      wk_ (pI (pI g b15 (0 : Int32).toNatClampNeg (jabs_ (gI g b17 x1.toNatClampNeg))) b26 (1 : Int32).toNatClampNeg (gI (pI g b15 (0 : Int32).toNatClampNeg (jabs_ (gI g b17 x1.toNatClampNeg))) b28 0)) b36 100 <|
      in_ 2 (gN (pI (pI g b15 (0 : Int32).toNatClampNeg (jabs_ (gI g b17 x1.toNatClampNeg))) b26 (1 : Int32).toNatClampNeg (gI (pI g b15 (0 : Int32).toNatClampNeg (jabs_ (gI g b17 x1.toNatClampNeg))) b28 0)) b36) <|
      nn_ (gR (pI (pI (pI g b15 (0 : Int32).toNatClampNeg (jabs_ (gI g b17 x1.toNatClampNeg))) b26 (1 : Int32).toNatClampNeg (gI (pI g b15 (0 : Int32).toNatClampNeg (jabs_ (gI g b17 x1.toNatClampNeg))) b28 0)) b36 (2 : Int32).toNatClampNeg r47) a0 7) fun b50 =>
      wk_ (pI (pI (pI g b15 (0 : Int32).toNatClampNeg (jabs_ (gI g b17 x1.toNatClampNeg))) b26 (1 : Int32).toNatClampNeg (gI (pI g b15 (0 : Int32).toNatClampNeg (jabs_ (gI g b17 x1.toNatClampNeg))) b28 0)) b36 (2 : Int32).toNatClampNeg r47) b50 1 <|
      nn_ (gR (pI (pI (pI g b15 (0 : Int32).toNatClampNeg (jabs_ (gI g b17 x1.toNatClampNeg))) b26 (1 : Int32).toNatClampNeg (gI (pI g b15 (0 : Int32).toNatClampNeg (jabs_ (gI g b17 x1.toNatClampNeg))) b28 0)) b36 (2 : Int32).toNatClampNeg r47) b50 0) fun b53 =>
      wk_ (pI (pI (pI g b15 (0 : Int32).toNatClampNeg (jabs_ (gI g b17 x1.toNatClampNeg))) b26 (1 : Int32).toNatClampNeg (gI (pI g b15 (0 : Int32).toNatClampNeg (jabs_ (gI g b17 x1.toNatClampNeg))) b28 0)) b36 (2 : Int32).toNatClampNeg r47) b53 2 <|
      nn_ (gR (pI (pI (pI g b15 (0 : Int32).toNatClampNeg (jabs_ (gI g b17 x1.toNatClampNeg))) b26 (1 : Int32).toNatClampNeg (gI (pI g b15 (0 : Int32).toNatClampNeg (jabs_ (gI g b17 x1.toNatClampNeg))) b28 0)) b36 (2 : Int32).toNatClampNeg r47) b53 4) fun b56 =>
      nn_ (gR (pI (pI (pI g b15 (0 : Int32).toNatClampNeg (jabs_ (gI g b17 x1.toNatClampNeg))) b26 (1 : Int32).toNatClampNeg (gI (pI g b15 (0 : Int32).toNatClampNeg (jabs_ (gI g b17 x1.toNatClampNeg))) b28 0)) b36 (2 : Int32).toNatClampNeg r47) a0 7) fun b58 =>
      wk_ (pI (pI (pI g b15 (0 : Int32).toNatClampNeg (jabs_ (gI g b17 x1.toNatClampNeg))) b26 (1 : Int32).toNatClampNeg (gI (pI g b15 (0 : Int32).toNatClampNeg (jabs_ (gI g b17 x1.toNatClampNeg))) b28 0)) b36 (2 : Int32).toNatClampNeg r47) b58 1 <|
      nn_ (gR (pI (pI (pI g b15 (0 : Int32).toNatClampNeg (jabs_ (gI g b17 x1.toNatClampNeg))) b26 (1 : Int32).toNatClampNeg (gI (pI g b15 (0 : Int32).toNatClampNeg (jabs_ (gI g b17 x1.toNatClampNeg))) b28 0)) b36 (2 : Int32).toNatClampNeg r47) b58 2) fun b61 =>
      ob_ (Fof_ ff_ b56 b61 (pI (pI (pI g b15 (0 : Int32).toNatClampNeg (jabs_ (gI g b17 x1.toNatClampNeg))) b26 (1 : Int32).toNatClampNeg (gI (pI g b15 (0 : Int32).toNatClampNeg (jabs_ (gI g b17 x1.toNatClampNeg))) b28 0)) b36 (2 : Int32).toNatClampNeg r47)) fun r63 =>
      if r63 ≤ 0 then
      some (0, pI (pI (pI g b15 (0 : Int32).toNatClampNeg (jabs_ (gI g b17 x1.toNatClampNeg))) b26 (1 : Int32).toNatClampNeg (gI (pI g b15 (0 : Int32).toNatClampNeg (jabs_ (gI g b17 x1.toNatClampNeg))) b28 0)) b36 (2 : Int32).toNatClampNeg r47)
    else
      some (1, pI (pI (pI g b15 (0 : Int32).toNatClampNeg (jabs_ (gI g b17 x1.toNatClampNeg))) b26 (1 : Int32).toNatClampNeg (gI (pI g b15 (0 : Int32).toNatClampNeg (jabs_ (gI g b17 x1.toNatClampNeg))) b28 0)) b36 (2 : Int32).toNatClampNeg r47)
else
  some (0, g)
def X11_shown_j29 (a0 : Nat) (x1 : Int32) (x2 : Int32) (g : GS) : Option ((Int32 × Int32 × GS) ⊕ (Int32 × GS)) :=
  some (.inl (x1, x2 + 1, g))
def X11_shown_b4 (a0 : Nat) (x1 : Int32) (x2 : Int32) (g : GS) : Option ((Int32 × Int32 × GS) ⊕ (Int32 × GS)) :=
  wk_ g a0 10 <|
  nn_ (gR g a0 7) fun b2 =>
  wk_ g b2 1 <|
  nn_ (gR g b2 0) fun b5 =>
  wk_ g b5 2 <|
  if (gI g b5 6) < x2 then
  some (.inr (x1, g))
else
  cb_ (X11_shows a0 x2 g) fun r11 g10 =>
    if r11 = 0 then
    X11_shown_j29 a0 x1 x2 g10
  else
    X11_shown_j29 a0 (x1 + 1) x2 g10
/-- RingHand$Take.shown()I -/
def X11_shown (a0 : Nat) (g : GS) : Option (Int32 × GS) :=
  ob_ (lp_ (fun a => X11_shown_b4 a0 a.1 a.2.1 a.2.2) fu_ (0, 0, g)) fun e13 =>
  some (e13.1, e13.2)
def X11_turned_b4 (a0 : Nat) (g : GS) (x1 : Int32) (x2 : Int32) : Option ((Int32 × Int32) ⊕ (Int32)) :=
  wk_ g a0 10 <|
  nn_ (gR g a0 7) fun b2 =>
  wk_ g b2 1 <|
  nn_ (gR g b2 0) fun b5 =>
  wk_ g b5 2 <|
  if (gI g b5 6) < x2 then
  some (.inr x1)
else
  nn_ (gR g a0 2) fun b9 =>
    rk_ g b9 100 <|
    in_ x2 (gN g b9) <|
    nn_ (gR g a0 2) fun b13 =>
    rk_ g b13 100 <|
    in_ (x2 - 1) (gN g b13) <|
    some (.inl (x1 + (jabs_ ((gI g b9 x2.toNatClampNeg) - (gI g b13 (x2 - 1).toNatClampNeg))), x2 + 1))
/-- RingHand$Take.turned()I -/
def X11_turned (a0 : Nat) (g : GS) : Option (Int32) :=
  ob_ (lp_ (fun a => X11_turned_b4 a0 g a.1 a.2) fu_ (0, 1)) fun e17 =>
  some e17
def X11_isAsSeen_j67 (a0 : Nat) (x1 : Int32) (t0 : Int32) (t1 : Int32) (g : GS) : Option ((Int32) ⊕ (((Unit) ⊕ (Unit)))) :=
  if t0 = t1 then
  some (.inl (x1 + 1))
else
  some (.inr (.inl ()))
def X11_isAsSeen_b2 (a0 : Nat) (g : GS) (x1 : Int32) : Option ((Int32) ⊕ (((Unit) ⊕ (Unit)))) :=
  wk_ g a0 10 <|
  nn_ (gR g a0 7) fun b2 =>
  wk_ g b2 1 <|
  nn_ (gR g b2 8) fun b5 =>
  wk_ g b5 12 <|
  ob_ (J2_size b5 g) fun r9 =>
  if r9 ≤ x1 then
  some (.inr (.inr ()))
else
  nn_ (gR g a0 7) fun b11 =>
    wk_ g b11 1 <|
    nn_ (gR g b11 8) fun b14 =>
    wk_ g b14 12 <|
    ob_ (J2_get b14 x1 g) fun r18 =>
    rk_ g r18 100 <|
    in_ 0 (gN g r18) <|
    ob_ (X11_isSharp_2 a0 (gI g r18 (0 : Int32).toNatClampNeg) g) fun r22 =>
    nn_ (gR g a0 7) fun b23 =>
    wk_ g b23 1 <|
    nn_ (gR g b23 8) fun b26 =>
    wk_ g b26 12 <|
    ob_ (J2_get b26 x1 g) fun r30 =>
    rk_ g r30 100 <|
    in_ 1 (gN g r30) <|
    if (gI g r30 (1 : Int32).toNatClampNeg) = 1 then
    X11_isAsSeen_j67 a0 x1 r22 1 g
  else
    X11_isAsSeen_j67 a0 x1 r22 0 g
/-- RingHand$Take.isAsSeen()Z -/
def X11_isAsSeen (a0 : Nat) (g : GS) : Option (Int32) :=
  ob_ (lp_ (fun a => X11_isAsSeen_b2 a0 g a) fu_ 0) fun e35 =>
  Sum.elim (fun e35a => some 0) (fun e35b => some 1) e35

/-! PURE, printed out of the bytecode by wip/D-98610w/gen/comp.py -/
set_option maxRecDepth 100000

/-- RingHand$Chalks.<init>(LRingHand;)V -/
def X12_init (a0 : Nat) (a1 : Nat) (g : GS) : Option ((Unit × GS) × Nat × Nat) :=
  wk_ g a0 11 <|
  nn_ (gR (pR g a0 4 (a1 + 1)) a0 4) fun b2 =>
  wk_ (pR g a0 4 (a1 + 1)) b2 1 <|
  nn_ (gR (pR g a0 4 (a1 + 1)) b2 0) fun b5 =>
  wk_ (pR g a0 4 (a1 + 1)) b5 2 <|
  ca_ (X2_places b5 (pR g a0 4 (a1 + 1))) fun r10 g9 =>
  wk_ g9 a0 11 <|
  al_ (pR g9 a0 0 (r10 + 1)) 10 8 fun u14 g15 =>
  wk_ g15 a0 11 <|
  nn_ (gR g15 a0 4) fun b19 =>
  nn_ (gR g15 a0 4) fun b21 =>
  wk_ g15 b21 1 <|
  nn_ (gR g15 b21 1) fun b24 =>
  wk_ g15 b24 3 <|
  ca_ (X3_copy b24 g15) fun r29 g28 =>
  ca_ (X11_init u14 b19 r29 g28) fun r34 g33 =>
  wk_ g33 a0 11 <|
  some (((), pI (pR g33 a0 1 (u14 + 1)) a0 3 (-1)), 0, 0)
def X12_go_b53 (rec : Nat → Int32 → Int32 → GS → Option ((Unit × GS) × Nat × Nat)) (a0 : Nat) (x2 : Int32) (x3 : Int32) (g : GS) : Option (((Int32 × GS) ⊕ (GS)) × Nat × Nat) :=
  wk_ g a0 11 <|
  nn_ (gR g a0 0) fun b3 =>
  wk_ g b3 12 <|
  ob_ (J2_size b3 g) fun r7 =>
  if r7 < (x3 + x2) then
  some (.inr g, 0, 0)
else
  nn_ (gR g a0 1) fun b9 =>
    wk_ g b9 10 <|
    nn_ (gR g b9 0) fun b12 =>
    wk_ g b12 3 <|
    nn_ (gR g b12 6) fun b15 =>
    nn_ (gR g a0 0) fun b17 =>
    wk_ g b17 12 <|
    ob_ (J2_get b17 x3 g) fun r21 =>
    rk_ g r21 14 <|
    wk_ g b15 12 <|
    ca_ (J2_add b15 r21 g) fun r26 g25 =>
    wk_ g25 a0 11 <|
    ca_ (rec a0 (x3 + 1) (x2 - 1) g25) fun r32 g31 =>
    wk_ g31 a0 11 <|
    nn_ (gR g31 a0 1) fun b36 =>
    wk_ g31 b36 10 <|
    nn_ (gR g31 b36 0) fun b39 =>
    wk_ g31 b39 3 <|
    nn_ (gR g31 b39 6) fun b42 =>
    nn_ (gR g31 a0 1) fun b44 =>
    wk_ g31 b44 10 <|
    nn_ (gR g31 b44 0) fun b47 =>
    wk_ g31 b47 3 <|
    nn_ (gR g31 b47 6) fun b50 =>
    wk_ g31 b50 12 <|
    ob_ (J2_size b50 g31) fun r54 =>
    wk_ g31 b42 12 <|
    cb_ (J2_remove b42 (r54 - 1) g31) fun r58 g57 =>
    some (.inl (x3 + 1, g57), 0, 0)
/-- RingHand$Chalks.go(II)V -/
def X12_go_b (rec : Nat → Int32 → Int32 → GS → Option ((Unit × GS) × Nat × Nat)) (a0 : Nat) (x1 : Int32) (x2 : Int32) (g : GS) : Option ((Unit × GS) × Nat × Nat) :=
  if x2 = 0 then
  wk_ g a0 11 <|
    nn_ (gR g a0 1) fun b63 =>
    wk_ g b63 10 <|
    cb_ (X11_run b63 g) fun r68 g67 =>
    wk_ g67 r68 10 <|
    ob_ (X11_sharp r68 g67) fun r71 =>
    wk_ g67 a0 11 <|
    if (gI g67 a0 3) < r71 then
    al_ (pI g67 a0 3 r71) 12 3 fun u74 g75 =>
      wk_ g75 a0 11 <|
      nn_ (gR g75 a0 1) fun b79 =>
      wk_ g75 b79 10 <|
      nn_ (gR g75 b79 0) fun b82 =>
      wk_ g75 b82 3 <|
      nn_ (gR g75 b82 6) fun b85 =>
      ca_ (J2_init_2 u74 b85 g75) fun r89 g88 =>
      wk_ g88 a0 11 <|
      some (((), pR g88 a0 2 (u74 + 1)), 0, 0)
  else
    some (((), g67), 0, 0)
else
  oa_ (la_ (fun a => X12_go_b53 rec a0 x2 a.1 a.2) fu_ (x1, g)) fun e59 =>
    some (((), e59), 0, 0)
def X12_go_r : Nat → Nat → Int32 → Int32 → GS → Option ((Unit × GS) × Nat × Nat)
  | 0, _, _, _, _ => none
  | n + 1, a0, x1, x2, g => X12_go_b (X12_go_r n) a0 x1 x2 g
def X12_go (a0 : Nat) (x1 : Int32) (x2 : Int32) (g : GS) : Option ((Unit × GS) × Nat × Nat) := X12_go_r 5 a0 x1 x2 g
/-- RingHand.common(II)I -/
def X1_common_b (rec : Int32 → Int32 → Option (Int32)) (x0 : Int32) (x1 : Int32) : Option (Int32) :=
  if x1 = 0 then
  some x0
else
  dv_ x1 <|
    ob_ (rec x1 (x0 - x0 / x1 * x1)) fun r4 =>
    some r4
def X1_common_r : Nat → Int32 → Int32 → Option (Int32)
  | 0, _, _ => none
  | n + 1, x0, x1 => X1_common_b (X1_common_r n) x0 x1
def X1_common (x0 : Int32) (x1 : Int32) : Option (Int32) := X1_common_r 40 x0 x1
def X1_part_j15 (x0 : Int32) (x1 : Int32) (t0 : Int32) : Option (Int32) :=
  ob_ (X1_common x1 x0) fun r4 =>
  dv_ r4 <|
  some (t0 / r4)
/-- RingHand.part(III)I -/
def X1_part (x0 : Int32) (x1 : Int32) (x2 : Int32) : Option (Int32) :=
  if x1 = 0 then
  some x2
else
  if x2 = 0 then
    X1_part_j15 x0 x1 x0
  else
    X1_part_j15 x0 x1 x1
def J3_init_2_j41 (a0 : Nat) (x3 : Int32) (g : GS) : Option (GS) :=
  wk_ g a0 5 <|
  if x3 = 0 then
  some (pR (pR (pR g a0 3 0) a0 0 0) a0 2 0)
else
  some (pR (pR g a0 3 0) a0 0 0)
/-- java/lang/Throwable.<init>(Ljava/lang/String;Ljava/lang/Throwable;ZZ)V -/
def J3_init_2 (a0 : Nat) (x3 : Int32) (x4 : Int32) (g : GS) : Option (GS) :=
  wk_ g a0 5 <|
  nn_ (gS (pR g a0 0 (a0 + 1)) 3) fun b2 =>
  nn_ (gS (pR (pR g a0 0 (a0 + 1)) a0 1 (b2 + 1)) 4) fun b4 =>
  if x4 = 0 then
  J3_init_2_j41 a0 x3 (pR (pR (pR (pR g a0 0 (a0 + 1)) a0 1 (b2 + 1)) a0 2 (b4 + 1)) a0 1 0)
else
  none
/-- java/lang/Exception.<init>(Ljava/lang/String;Ljava/lang/Throwable;ZZ)V -/
def J4_init_2 (a0 : Nat) (x3 : Int32) (x4 : Int32) (g : GS) : Option (GS) :=
  ob_ (J3_init_2 a0 x3 x4 g) fun g2 =>
  some g2
/-- RingHand$Wrong.<init>(I)V -/
def X6_init (a0 : Nat) (x1 : Int32) (g : GS) : Option (GS) :=
  ob_ (J4_init_2 a0 0 0 g) fun g2 =>
  wk_ g2 a0 5 <|
  some (pI g2 a0 6 x1)
/-- RingHand$Reader.here()I -/
def X5_here (a0 : Nat) (g : GS) : Option (Int32) :=
  wk_ g a0 4 <|
  if (gI g a0 0) ≤ (gI g a0 8) then
  some (-1)
else
  nn_ (gR g a0 14) fun b3 =>
    wk_ g b3 1 <|
    nn_ (gR g b3 3) fun b6 =>
    rk_ g b6 101 <|
    in_ (gI g a0 8) (gN g b6) <|
    some ((gI g b6 (gI g a0 8).toNatClampNeg) &&& 255)
/-- RingHand.in(III)Z -/
def X1_in (x0 : Int32) (x1 : Int32) (x2 : Int32) : Option (Int32) :=
  if x0 < x1 then
  some 0
else
  if x2 < x0 then
    some 0
  else
    some 1
/-- RingHand$Reader.isLetter()Z -/
def X5_isLetter (a0 : Nat) (g : GS) : Option (Int32) :=
  wk_ g a0 4 <|
  ob_ (X5_here a0 g) fun r3 =>
  ob_ (X1_in r3 97 122) fun r5 =>
  some (zb_ r5)
/-- RingHand$Reader.isDigit()Z -/
def X5_isDigit (a0 : Nat) (g : GS) : Option (Int32) :=
  wk_ g a0 4 <|
  ob_ (X5_here a0 g) fun r3 =>
  ob_ (X1_in r3 48 57) fun r5 =>
  some (zb_ r5)
def X5_next_j18 (a0 : Nat) (g : GS) : Option ((GS) ⊕ (GS)) :=
  wk_ g a0 4 <|
  some (.inl (pI g a0 8 ((gI g a0 8) + 1)))
def X5_next_b0 (a0 : Nat) (g : GS) : Option ((GS) ⊕ (GS)) :=
  wk_ g a0 4 <|
  ob_ (X5_here a0 g) fun r3 =>
  if r3 = 32 then
  X5_next_j18 a0 g
else
  ob_ (X5_here a0 g) fun r7 =>
    if r7 = 10 then
    X5_next_j18 a0 g
  else
    some (.inr g)
def X5_next_j185 (a0 : Nat) (g : GS) : Option (GS) :=
  wk_ g a0 4 <|
  some (pI g a0 11 (gI g a0 8))
def X5_next_j172 (a0 : Nat) (t0 : Nat) (t1 : Int32) (g : GS) : Option (GS) :=
  wk_ g t0 4 <|
  wk_ (pI g t0 9 t1) a0 4 <|
  X5_next_j185 a0 (pI (pI g t0 9 t1) a0 8 ((gI (pI g t0 9 t1) a0 8) + 1))
def X5_next_b102 (a0 : Nat) (g : GS) : Option ((GS) ⊕ (GS)) :=
  wk_ g a0 4 <|
  ob_ (X5_isDigit a0 g) fun r31 =>
  if r31 = 0 then
  some (.inr g)
else
  ob_ (X5_here a0 g) fun r34 =>
    nm_ (pI (pI g a0 12 (jmin_ 100000 (((10 * (gI g a0 12)) + r34) - 48))) a0 8 ((gI (pI g a0 12 (jmin_ 100000 (((10 * (gI g a0 12)) + r34) - 48))) a0 8) + 1)) fun g35 =>
    some (.inl g35)
def X5_next_b62 (a0 : Nat) (g : GS) : Option ((GS) ⊕ (GS)) :=
  wk_ g a0 4 <|
  ob_ (X5_isLetter a0 g) fun r42 =>
  if r42 = 0 then
  some (.inr g)
else
  some (.inl (pI g a0 8 ((gI g a0 8) + 1)))
/-- RingHand$Reader.next()V -/
def X5_next (a0 : Nat) (g : GS) : Option (GS) :=
  ob_ (lp_ (fun a => X5_next_b0 a0 a) fu_ g) fun e9 =>
  wk_ e9 a0 4 <|
  ob_ (X5_here a0 (pI e9 a0 10 (gI e9 a0 8))) fun r12 =>
  if r12 = (-1) then
  X5_next_j185 a0 (pI (pI e9 a0 10 (gI e9 a0 8)) a0 9 0)
else
  ob_ (X5_isLetter a0 (pI e9 a0 10 (gI e9 a0 8))) fun r15 =>
    if r15 = 0 then
    ob_ (X5_isDigit a0 (pI e9 a0 10 (gI e9 a0 8))) fun r18 =>
      if r18 = 0 then
      ob_ (X5_here a0 (pI e9 a0 10 (gI e9 a0 8))) fun r21 =>
        rk_ (pI e9 a0 10 (gI e9 a0 8)) (gS (pI e9 a0 10 (gI e9 a0 8)) 23) 200 <|
        ob_ (J8_indexOf (gS (pI e9 a0 10 (gI e9 a0 8)) 23) r21 (pI e9 a0 10 (gI e9 a0 8))) fun r24 =>
        if r24 < 0 then
        X5_next_j172 a0 a0 4 (pI e9 a0 10 (gI e9 a0 8))
      else
        X5_next_j172 a0 a0 3 (pI e9 a0 10 (gI e9 a0 8))
    else
      ob_ (lp_ (fun a => X5_next_b102 a0 a) fu_ (pI (pI e9 a0 10 (gI e9 a0 8)) a0 12 0)) fun e38 =>
        wk_ e38 a0 4 <|
        X5_next_j185 a0 (pI e38 a0 9 2)
  else
    ob_ (lp_ (fun a => X5_next_b62 a0 a) fu_ (pI e9 a0 10 (gI e9 a0 8))) fun e44 =>
      wk_ e44 a0 4 <|
      X5_next_j185 a0 (pI e44 a0 9 1)
def X5_is_b28 (a0 : Nat) (a1 : Nat) (g : GS) (x2 : Int32) : Option ((Int32) ⊕ (((Unit) ⊕ (Unit)))) :=
  rk_ g a1 200 <|
  ob_ (J8_length a1 g) fun r9 =>
  if r9 ≤ x2 then
  some (.inr (.inr ()))
else
  ob_ (J8_charAt a1 x2 g) fun r12 =>
    wk_ g a0 4 <|
    nn_ (gR g a0 14) fun b14 =>
    wk_ g b14 1 <|
    nn_ (gR g b14 3) fun b17 =>
    rk_ g b17 101 <|
    in_ ((gI g a0 10) + x2) (gN g b17) <|
    if r12 = ((gI g b17 ((gI g a0 10) + x2).toNatClampNeg) &&& 255) then
    some (.inl (x2 + 1))
  else
    some (.inr (.inl ()))
/-- RingHand$Reader.is(Ljava/lang/String;)Z -/
def X5_is (a0 : Nat) (a1 : Nat) (g : GS) : Option (Int32) :=
  wk_ g a0 4 <|
  if (gI g a0 9) = 1 then
  rk_ g a1 200 <|
    ob_ (J8_length a1 g) fun r5 =>
    if r5 = ((gI g a0 11) - (gI g a0 10)) then
    ob_ (lp_ (fun a => X5_is_b28 a0 a1 g a) fu_ 0) fun e22 =>
      Sum.elim (fun e22a => some 0) (fun e22b => some 1) e22
  else
    some 0
else
  some 0
def X5_which_b2 (a0 : Nat) (a1 : Nat) (g : GS) (x2 : Int32) : Option ((Int32) ⊕ (((Int32) ⊕ (Unit)))) :=
  rk_ g a1 104 <|
  if (Int32.ofNat (gN g a1)) ≤ x2 then
  some (.inr (.inr ()))
else
  in_ x2 (gN g a1) <|
    nn_ (gR g a1 x2.toNatClampNeg) fun b4 =>
    wk_ g a0 4 <|
    ob_ (X5_is a0 b4 g) fun r8 =>
    if r8 = 0 then
    some (.inl (x2 + 1))
  else
    some (.inr (.inl x2))
/-- RingHand$Reader.which([Ljava/lang/String;)I -/
def X5_which (a0 : Nat) (a1 : Nat) (g : GS) : Option (Int32) :=
  ob_ (lp_ (fun a => X5_which_b2 a0 a1 g a) fu_ 0) fun e10 =>
  Sum.elim (fun e10a => some e10a) (fun e10b => some (-1)) e10
/-- RingHand$Reader.isSign(C)Z -/
def X5_isSign (a0 : Nat) (x1 : Int32) (g : GS) : Option (Int32) :=
  wk_ g a0 4 <|
  if (gI g a0 9) = 3 then
  nn_ (gR g a0 14) fun b3 =>
    wk_ g b3 1 <|
    nn_ (gR g b3 3) fun b6 =>
    rk_ g b6 101 <|
    in_ (gI g a0 10) (gN g b6) <|
    if (gI g b6 (gI g a0 10).toNatClampNeg) = x1 then
    some 1
  else
    some 0
else
  some 0
/-- RingHand$Reader.passes(Ljava/lang/String;)Z -/
def X5_passes (a0 : Nat) (a1 : Nat) (g : GS) : Option (Int32 × GS) :=
  wk_ g a0 4 <|
  ob_ (X5_is a0 a1 g) fun r3 =>
  if r3 = 0 then
  some (zb_ r3, g)
else
  ob_ (X5_next a0 g) fun g6 =>
    some (zb_ r3, g6)
/-- RingHand$Reader.sign()C -/
def X5_sign (a0 : Nat) (g : GS) : Option (Int32 × GS) :=
  wk_ g a0 4 <|
  nn_ (gR g a0 14) fun b2 =>
  wk_ g b2 1 <|
  nn_ (gR g b2 3) fun b5 =>
  rk_ g b5 101 <|
  in_ (gI g a0 10) (gN g b5) <|
  ob_ (X5_next a0 g) fun g10 =>
  some (zc_ (((gI g b5 (gI g a0 10).toNatClampNeg).toUInt32 % 65536).toInt32), g10)
/-- RingHand$Reader.<init>(LRingHand;I)V -/
def X5_init (a0 : Nat) (a1 : Nat) (x2 : Int32) (g : GS) : Option ((Unit × GS) × Nat × Nat) :=
  wk_ g a0 4 <|
  al_ (pR g a0 14 (a1 + 1)) 2 7 fun u2 g3 =>
  ca_ (X2_init u2 g3) fun r8 g7 =>
  wk_ g7 a0 4 <|
  al_ (pR g7 a0 1 (u2 + 1)) 3 7 fun u12 g13 =>
  ca_ (X3_init u12 g13) fun r18 g17 =>
  wk_ g17 a0 4 <|
  na_ 7 <|
  al_ (pR g17 a0 2 (u12 + 1)) 104 ((7 : Int32).toNatClampNeg) fun u22 g23 =>
  in_ 0 (gN g23 u22) <|
  rk_ g23 (gS g23 10) 200 <|
  in_ 1 (gN (pR g23 u22 (0 : Int32).toNatClampNeg (gS g23 10 + 1)) u22) <|
  rk_ (pR g23 u22 (0 : Int32).toNatClampNeg (gS g23 10 + 1)) (gS (pR g23 u22 (0 : Int32).toNatClampNeg (gS g23 10 + 1)) 11) 200 <|
  nm_ (pR (pR g23 u22 (0 : Int32).toNatClampNeg (gS g23 10 + 1)) u22 (1 : Int32).toNatClampNeg (gS (pR g23 u22 (0 : Int32).toNatClampNeg (gS g23 10 + 1)) 11 + 1)) fun g31 =>
  in_ 2 (gN g31 u22) <|
  rk_ g31 (gS g31 12) 200 <|
  in_ 3 (gN (pR g31 u22 (2 : Int32).toNatClampNeg (gS g31 12 + 1)) u22) <|
  rk_ (pR g31 u22 (2 : Int32).toNatClampNeg (gS g31 12 + 1)) (gS (pR g31 u22 (2 : Int32).toNatClampNeg (gS g31 12 + 1)) 13) 200 <|
  nm_ (pR (pR g31 u22 (2 : Int32).toNatClampNeg (gS g31 12 + 1)) u22 (3 : Int32).toNatClampNeg (gS (pR g31 u22 (2 : Int32).toNatClampNeg (gS g31 12 + 1)) 13 + 1)) fun g40 =>
  in_ 4 (gN g40 u22) <|
  rk_ g40 (gS g40 14) 200 <|
  in_ 5 (gN (pR g40 u22 (4 : Int32).toNatClampNeg (gS g40 14 + 1)) u22) <|
  rk_ (pR g40 u22 (4 : Int32).toNatClampNeg (gS g40 14 + 1)) (gS (pR g40 u22 (4 : Int32).toNatClampNeg (gS g40 14 + 1)) 15) 200 <|
  nm_ (pR (pR g40 u22 (4 : Int32).toNatClampNeg (gS g40 14 + 1)) u22 (5 : Int32).toNatClampNeg (gS (pR g40 u22 (4 : Int32).toNatClampNeg (gS g40 14 + 1)) 15 + 1)) fun g51 =>
  in_ 6 (gN g51 u22) <|
  rk_ g51 (gS g51 16) 200 <|
  wk_ (pR g51 u22 (6 : Int32).toNatClampNeg (gS g51 16 + 1)) a0 4 <|
  na_ 1 <|
  al_ (pR (pR g51 u22 (6 : Int32).toNatClampNeg (gS g51 16 + 1)) a0 3 (u22 + 1)) 104 ((1 : Int32).toNatClampNeg) fun u63 g64 =>
  in_ 0 (gN g64 u63) <|
  rk_ g64 (gS g64 17) 200 <|
  wk_ (pR g64 u63 (0 : Int32).toNatClampNeg (gS g64 17 + 1)) a0 4 <|
  na_ 3 <|
  al_ (pR (pR g64 u63 (0 : Int32).toNatClampNeg (gS g64 17 + 1)) a0 4 (u63 + 1)) 104 ((3 : Int32).toNatClampNeg) fun u71 g72 =>
  in_ 0 (gN g72 u71) <|
  rk_ g72 (gS g72 18) 200 <|
  in_ 1 (gN (pR g72 u71 (0 : Int32).toNatClampNeg (gS g72 18 + 1)) u71) <|
  rk_ (pR g72 u71 (0 : Int32).toNatClampNeg (gS g72 18 + 1)) (gS (pR g72 u71 (0 : Int32).toNatClampNeg (gS g72 18 + 1)) 11) 200 <|
  nm_ (pR (pR g72 u71 (0 : Int32).toNatClampNeg (gS g72 18 + 1)) u71 (1 : Int32).toNatClampNeg (gS (pR g72 u71 (0 : Int32).toNatClampNeg (gS g72 18 + 1)) 11 + 1)) fun g80 =>
  in_ 2 (gN g80 u71) <|
  rk_ g80 (gS g80 17) 200 <|
  wk_ (pR g80 u71 (2 : Int32).toNatClampNeg (gS g80 17 + 1)) a0 4 <|
  na_ 5 <|
  al_ (pR (pR g80 u71 (2 : Int32).toNatClampNeg (gS g80 17 + 1)) a0 5 (u71 + 1)) 104 ((5 : Int32).toNatClampNeg) fun u88 g89 =>
  in_ 0 (gN g89 u88) <|
  rk_ g89 (gS g89 19) 200 <|
  in_ 1 (gN (pR g89 u88 (0 : Int32).toNatClampNeg (gS g89 19 + 1)) u88) <|
  rk_ (pR g89 u88 (0 : Int32).toNatClampNeg (gS g89 19 + 1)) (gS (pR g89 u88 (0 : Int32).toNatClampNeg (gS g89 19 + 1)) 20) 200 <|
  nm_ (pR (pR g89 u88 (0 : Int32).toNatClampNeg (gS g89 19 + 1)) u88 (1 : Int32).toNatClampNeg (gS (pR g89 u88 (0 : Int32).toNatClampNeg (gS g89 19 + 1)) 20 + 1)) fun g97 =>
  in_ 2 (gN g97 u88) <|
  rk_ g97 (gS g97 15) 200 <|
  in_ 3 (gN (pR g97 u88 (2 : Int32).toNatClampNeg (gS g97 15 + 1)) u88) <|
  rk_ (pR g97 u88 (2 : Int32).toNatClampNeg (gS g97 15 + 1)) (gS (pR g97 u88 (2 : Int32).toNatClampNeg (gS g97 15 + 1)) 21) 200 <|
  nm_ (pR (pR g97 u88 (2 : Int32).toNatClampNeg (gS g97 15 + 1)) u88 (3 : Int32).toNatClampNeg (gS (pR g97 u88 (2 : Int32).toNatClampNeg (gS g97 15 + 1)) 21 + 1)) fun g106 =>
  in_ 4 (gN g106 u88) <|
  rk_ g106 (gS g106 22) 200 <|
  wk_ (pR g106 u88 (4 : Int32).toNatClampNeg (gS g106 22 + 1)) a0 4 <|
  nn_ (gR (pR (pR g106 u88 (4 : Int32).toNatClampNeg (gS g106 22 + 1)) a0 6 (u88 + 1)) a0 4) fun b116 =>
  some (((), pI (pR (pR (pR g106 u88 (4 : Int32).toNatClampNeg (gS g106 22 + 1)) a0 6 (u88 + 1)) a0 7 (b116 + 1)) a0 0 x2), 0, 0)
/-- RingHand.take()LRingHand$Take; -/
def X1_take (a0 : Nat) (g : GS) : Option ((Nat × GS) × Nat × Nat) :=
  al_ g 10 8 fun u1 g2 =>
  wk_ g2 a0 1 <|
  nn_ (gR g2 a0 1) fun b6 =>
  ca_ (X11_init u1 a0 b6 g2) fun r10 g9 =>
  wk_ g9 u1 10 <|
  cb_ (X11_run u1 g9) fun r16 g15 =>
  some ((r16, g15), 0, 0)
/-- RingHand.keep()V -/
def X1_keep (a0 : Nat) (g : GS) : Option ((Unit × GS) × Nat × Nat) :=
  wk_ g a0 1 <|
  nn_ (gR g a0 7) fun b2 =>
  nn_ (gR g a0 1) fun b4 =>
  wk_ g b4 3 <|
  ca_ (X3_copy b4 g) fun r9 g8 =>
  wk_ g8 b2 12 <|
  ca_ (J2_add b2 r9 g8) fun r15 g14 =>
  wk_ g14 a0 1 <|
  nn_ (gR g14 a0 7) fun b19 =>
  wk_ g14 b19 12 <|
  ob_ (J2_size b19 g14) fun r23 =>
  if r23 ≤ 40 then
  some (((), g14), 0, 0)
else
  nn_ (gR g14 a0 7) fun b25 =>
    wk_ g14 b25 12 <|
    cb_ (J2_remove b25 0 g14) fun r30 g29 =>
    some (((), g29), 0, 0)
/-- RingHand.refuse(I)I -/
def X1_refuse (a0 : Nat) (x1 : Int32) (g : GS) : Option (Int32 × GS) :=
  wk_ g a0 1 <|
  nn_ (gR g a0 6) fun b2 =>
  rk_ g b2 100 <|
  in_ x1 (gN g b2) <|
  wk_ g b2 100 <|
  in_ x1 (gN g b2) <|
  some ((-1), pI g b2 x1.toNatClampNeg ((gI g b2 x1.toNatClampNeg) + 1))
/-- RingHand.hole(I)I -/
def X1_hole (a0 : Nat) (x1 : Int32) (g : GS) : Option ((Int32 × GS) × Nat × Nat) :=
  ob_ (X1_in x1 1 60) fun r2 =>
  if r2 = 0 then
  wk_ g a0 1 <|
    cb_ (X1_refuse a0 1 g) fun r20 g19 =>
    some ((r20, g19), 0, 0)
else
  wk_ g a0 1 <|
    ca_ (X1_keep a0 g) fun r7 g6 =>
    wk_ g6 a0 1 <|
    nn_ (gR g6 a0 1) fun b11 =>
    wk_ g6 b11 3 <|
    nn_ (gR g6 a0 1) fun b14 =>
    wk_ g6 b14 3 <|
    some ((gI g6 b11 0, pI g6 b14 0 x1), 0, 0)
/-- RingHand.lag(I)I -/
def X1_lag (a0 : Nat) (x1 : Int32) (g : GS) : Option ((Int32 × GS) × Nat × Nat) :=
  ob_ (X1_in x1 0 24) fun r2 =>
  if r2 = 0 then
  wk_ g a0 1 <|
    cb_ (X1_refuse a0 1 g) fun r20 g19 =>
    some ((r20, g19), 0, 0)
else
  wk_ g a0 1 <|
    ca_ (X1_keep a0 g) fun r7 g6 =>
    wk_ g6 a0 1 <|
    nn_ (gR g6 a0 1) fun b11 =>
    wk_ g6 b11 3 <|
    nn_ (gR g6 a0 1) fun b14 =>
    wk_ g6 b14 3 <|
    some ((gI g6 b11 1, pI g6 b14 1 x1), 0, 0)
/-- RingHand.wrist(I)I -/
def X1_wrist (a0 : Nat) (x1 : Int32) (g : GS) : Option ((Int32 × GS) × Nat × Nat) :=
  ob_ (X1_in x1 1 90) fun r2 =>
  if r2 = 0 then
  wk_ g a0 1 <|
    cb_ (X1_refuse a0 1 g) fun r20 g19 =>
    some ((r20, g19), 0, 0)
else
  wk_ g a0 1 <|
    ca_ (X1_keep a0 g) fun r7 g6 =>
    wk_ g6 a0 1 <|
    nn_ (gR g6 a0 1) fun b11 =>
    wk_ g6 b11 3 <|
    nn_ (gR g6 a0 1) fun b14 =>
    wk_ g6 b14 3 <|
    some ((gI g6 b11 2, pI g6 b14 2 x1), 0, 0)
/-- RingHand.eye(I)I -/
def X1_eye (a0 : Nat) (x1 : Int32) (g : GS) : Option ((Int32 × GS) × Nat × Nat) :=
  ob_ (X1_in x1 (-30) 30) fun r2 =>
  if r2 = 0 then
  wk_ g a0 1 <|
    nn_ (gR g a0 6) fun b18 =>
    rk_ g b18 100 <|
    in_ 1 (gN g b18) <|
    wk_ g b18 100 <|
    in_ 1 (gN g b18) <|
    some (((-99), pI g b18 (1 : Int32).toNatClampNeg ((gI g b18 (1 : Int32).toNatClampNeg) + 1)), 0, 0)
else
  wk_ g a0 1 <|
    ca_ (X1_keep a0 g) fun r7 g6 =>
    wk_ g6 a0 1 <|
    nn_ (gR g6 a0 1) fun b11 =>
    wk_ g6 b11 3 <|
    nn_ (gR g6 a0 1) fun b14 =>
    wk_ g6 b14 3 <|
    some ((gI g6 b11 3, pI g6 b14 3 x1), 0, 0)
/-- RingHand.hand(I)Z -/
def X1_hand (a0 : Nat) (x1 : Int32) (g : GS) : Option ((Int32 × GS) × Nat × Nat) :=
  wk_ g a0 1 <|
  nn_ (gR g a0 0) fun b2 =>
  wk_ g b2 2 <|
  nn_ (gR g b2 2) fun b5 =>
  wk_ g b5 12 <|
  ob_ (J2_size b5 g) fun r9 =>
  ob_ (X1_in x1 (-1) (r9 - 1)) fun r11 =>
  if r11 = 0 then
  nn_ (gR g a0 6) fun b22 =>
    rk_ g b22 100 <|
    in_ 1 (gN g b22) <|
    wk_ g b22 100 <|
    in_ 1 (gN g b22) <|
    some ((0, pI g b22 (1 : Int32).toNatClampNeg ((gI g b22 (1 : Int32).toNatClampNeg) + 1)), 0, 0)
else
  ca_ (X1_keep a0 g) fun r15 g14 =>
    wk_ g14 a0 1 <|
    nn_ (gR g14 a0 1) fun b19 =>
    wk_ g14 b19 3 <|
    some ((1, pI g14 b19 4 x1), 0, 0)
/-- RingHand.behind(I)I -/
def X1_behind (a0 : Nat) (x1 : Int32) (g : GS) : Option ((Int32 × GS) × Nat × Nat) :=
  ob_ (X1_in x1 0 200) fun r2 =>
  if r2 = 0 then
  wk_ g a0 1 <|
    cb_ (X1_refuse a0 1 g) fun r20 g19 =>
    some ((r20, g19), 0, 0)
else
  wk_ g a0 1 <|
    ca_ (X1_keep a0 g) fun r7 g6 =>
    wk_ g6 a0 1 <|
    nn_ (gR g6 a0 1) fun b11 =>
    wk_ g6 b11 3 <|
    nn_ (gR g6 a0 1) fun b14 =>
    wk_ g6 b14 3 <|
    some ((gI g6 b11 5, pI g6 b14 5 x1), 0, 0)
/-- RingHand.undo()I -/
def X1_undo (a0 : Nat) (g : GS) : Option ((Int32 × GS) × Nat × Nat) :=
  wk_ g a0 1 <|
  nn_ (gR g a0 7) fun b2 =>
  wk_ g b2 12 <|
  ob_ (J2_isEmpty b2 g) fun r6 =>
  if r6 = 0 then
  nn_ (gR g a0 7) fun b8 =>
    nn_ (gR g a0 7) fun b10 =>
    wk_ g b10 12 <|
    ob_ (J2_size b10 g) fun r14 =>
    wk_ g b8 12 <|
    cb_ (J2_remove b8 (r14 - 1) g) fun r18 g17 =>
    wk_ g17 r18 3 <|
    ca_ (X3_copy r18 g17) fun r22 g21 =>
    wk_ g21 a0 1 <|
    nn_ (gR (pR g21 a0 1 (r22 + 1)) a0 7) fun b26 =>
    wk_ (pR g21 a0 1 (r22 + 1)) b26 12 <|
    ob_ (J2_size b26 (pR g21 a0 1 (r22 + 1))) fun r30 =>
    some ((r30, pR g21 a0 1 (r22 + 1)), 0, 0)
else
  some (((-1), g), 0, 0)
def X1_both_b17 (a0 : Nat) (a1 : Nat) (x2 : Int32) (x3 : Int32) (g : GS) : Option (((Int32 × Int32 × GS) ⊕ (Int32 × GS)) × Nat × Nat) :=
  wk_ g a0 1 <|
  nn_ (gR g a0 0) fun b14 =>
  wk_ g b14 2 <|
  if (gI g b14 6) < x3 then
  some (.inr (x2, g), 0, 0)
else
  wk_ g a1 10 <|
    ob_ (X11_inches a1 x3 0 g) fun r20 =>
    cb_ (X1_turnOf a0 r20 g) fun r23 g22 =>
    wk_ g22 a1 10 <|
    ob_ (X11_inches a1 x3 1 g22) fun r26 =>
    wk_ g22 a0 1 <|
    cb_ (X1_turnOf a0 r26 g22) fun r30 g29 =>
    some (.inl (jmax_ x2 (jabs_ (r23 - r30)), x3 + 1, g29), 0, 0)
/-- RingHand.both()I -/
def X1_both (a0 : Nat) (g : GS) : Option ((Int32 × GS) × Nat × Nat) :=
  al_ g 10 8 fun u1 g2 =>
  wk_ g2 a0 1 <|
  nn_ (gR g2 a0 1) fun b6 =>
  ca_ (X11_init u1 a0 b6 g2) fun r10 g9 =>
  oa_ (la_ (fun a => X1_both_b17 a0 u1 a.1 a.2.1 a.2.2) fu_ (0, 0, g9)) fun e31 =>
  dv_ 2 <|
  some (((e31.1 + 1) / 2, e31.2), 0, 0)
/-- RingHand.sharpBy(LRingHand$Settings;)I -/
def X1_sharpBy (a0 : Nat) (a1 : Nat) (g : GS) : Option ((Int32 × GS) × Nat × Nat) :=
  al_ g 10 8 fun u1 g2 =>
  ca_ (X11_init u1 a0 a1 g2) fun r7 g6 =>
  wk_ g6 u1 10 <|
  cb_ (X11_run u1 g6) fun r13 g12 =>
  wk_ g12 r13 10 <|
  ob_ (X11_sharp r13 g12) fun r16 =>
  some ((r16, g12), 0, 0)
def X1_cure_j82 (a0 : Nat) (x1 : Int32) (x2 : Int32) (x3 : Int32) (g : GS) : Option (((Int32 × Int32 × Int32 × GS) ⊕ (Int32 × GS)) × Nat × Nat) :=
  some (.inl (x1, x2, x3 + 1, g), 0, 0)
def X1_cure_j60 (a0 : Nat) (x1 : Int32) (x2 : Int32) (x3 : Int32) (a4 : Nat) (g : GS) : Option (((Int32 × Int32 × Int32 × GS) ⊕ (Int32 × GS)) × Nat × Nat) :=
  wk_ g a0 1 <|
  ca_ (X1_sharpBy a0 a4 g) fun r26 g25 =>
  if x2 < r26 then
  X1_cure_j82 a0 x3 r26 x3 g25
else
  X1_cure_j82 a0 x1 x2 x3 g25
def X1_cure_b12 (a0 : Nat) (x1 : Int32) (x2 : Int32) (x3 : Int32) (g : GS) : Option (((Int32 × Int32 × Int32 × GS) ⊕ (Int32 × GS)) × Nat × Nat) :=
  if 3 ≤ x3 then
  some (.inr (x1, g), 0, 0)
else
  wk_ g a0 1 <|
    nn_ (gR g a0 1) fun b12 =>
    wk_ g b12 3 <|
    ca_ (X3_copy b12 g) fun r17 g16 =>
    if x3 = 0 then
    wk_ g16 r17 3 <|
      X1_cure_j60 a0 x1 x2 x3 r17 (pI g16 r17 3 0)
  else
    if x3 = 1 then
      wk_ g16 r17 3 <|
        X1_cure_j60 a0 x1 x2 x3 r17 (pI g16 r17 1 0)
    else
      wk_ g16 r17 3 <|
        X1_cure_j60 a0 x1 x2 x3 r17 (pI g16 r17 2 90)
/-- RingHand.cure()I -/
def X1_cure (a0 : Nat) (g : GS) : Option ((Int32 × GS) × Nat × Nat) :=
  wk_ g a0 1 <|
  ca_ (X1_take a0 g) fun r4 g3 =>
  wk_ g3 r4 10 <|
  ob_ (X11_sharp r4 g3) fun r9 =>
  oa_ (la_ (fun a => X1_cure_b12 a0 a.1 a.2.1 a.2.2.1 a.2.2.2) fu_ ((-1), r9, 0, g3)) fun e32 =>
  some ((e32.1, e32.2), 0, 0)
def X1_wrists_j63 (a1 : Nat) (x2 : Int32) (x3 : Int32) (x4 : Int32) (g : GS) : Option (((Int32 × Int32 × Int32 × GS) ⊕ (Int32 × GS)) × Nat × Nat) :=
  some (.inl (x2, x3, x4 + 1, g), 0, 0)
def X1_wrists_b23 (a1 : Nat) (x2 : Int32) (x3 : Int32) (x4 : Int32) (g : GS) : Option (((Int32 × Int32 × Int32 × GS) ⊕ (Int32 × GS)) × Nat × Nat) :=
  if 90 < x4 then
  some (.inr (x2, g), 0, 0)
else
  wk_ g a1 10 <|
    nn_ (gR g a1 0) fun b21 =>
    wk_ g b21 3 <|
    cb_ (X11_run a1 (pI g b21 2 x4)) fun r26 g25 =>
    wk_ g25 r26 10 <|
    ob_ (X11_sharp r26 g25) fun r29 =>
    if x3 < r29 then
    X1_wrists_j63 a1 x4 r29 x4 g25
  else
    X1_wrists_j63 a1 x2 x3 x4 g25
/-- RingHand.wrists()I -/
def X1_wrists (a0 : Nat) (g : GS) : Option ((Int32 × GS) × Nat × Nat) :=
  al_ g 10 8 fun u1 g2 =>
  wk_ g2 a0 1 <|
  nn_ (gR g2 a0 1) fun b6 =>
  wk_ g2 b6 3 <|
  ca_ (X3_copy b6 g2) fun r11 g10 =>
  ca_ (X11_init u1 a0 r11 g10) fun r16 g15 =>
  oa_ (la_ (fun a => X1_wrists_b23 u1 a.1 a.2.1 a.2.2.1 a.2.2.2) fu_ (0, (-1), 1, g15)) fun e31 =>
  some ((e31.1, e31.2), 0, 0)
def X1_learn_j90 (a0 : Nat) (a1 : Nat) (x2 : Int32) (x3 : Int32) (x4 : Int32) (g : GS) : Option (((Int32 × Int32 × Int32 × GS) ⊕ (Int32 × GS)) × Nat × Nat) :=
  some (.inl (x2, x3, x4 + 1, g), 0, 0)
def X1_learn_b23 (a0 : Nat) (a1 : Nat) (x2 : Int32) (x3 : Int32) (x4 : Int32) (g : GS) : Option (((Int32 × Int32 × Int32 × GS) ⊕ (Int32 × GS)) × Nat × Nat) :=
  wk_ g a0 1 <|
  nn_ (gR g a0 1) fun b20 =>
  wk_ g b20 3 <|
  if (jabs_ (gI g b20 3)) < x4 then
  some (.inr (x2, g), 0, 0)
else
  wk_ g a1 10 <|
    nn_ (gR g a1 0) fun b25 =>
    nn_ (gR g a0 1) fun b27 =>
    wk_ g b27 3 <|
    nn_ (gR g a0 1) fun b30 =>
    wk_ g b30 3 <|
    ob_ (J19_signum (gI g b30 3)) fun r34 =>
    wk_ g b25 3 <|
    cb_ (X11_run a1 (pI g b25 3 ((gI g b27 3) - (x4 * r34)))) fun r38 g37 =>
    wk_ g37 r38 10 <|
    ob_ (X11_sharp r38 g37) fun r41 =>
    if x3 < r41 then
    X1_learn_j90 a0 a1 x4 r41 x4 g37
  else
    X1_learn_j90 a0 a1 x2 x3 x4 g37
/-- RingHand.learn()I -/
def X1_learn (a0 : Nat) (g : GS) : Option ((Int32 × GS) × Nat × Nat) :=
  al_ g 10 8 fun u1 g2 =>
  wk_ g2 a0 1 <|
  nn_ (gR g2 a0 1) fun b6 =>
  wk_ g2 b6 3 <|
  ca_ (X3_copy b6 g2) fun r11 g10 =>
  ca_ (X11_init u1 a0 r11 g10) fun r16 g15 =>
  oa_ (la_ (fun a => X1_learn_b23 a0 u1 a.1 a.2.1 a.2.2.1 a.2.2.2) fu_ (0, (-1), 0, g15)) fun e43 =>
  some ((e43.1, e43.2), 0, 0)
/-- RingHand.draw(I)I -/
def X1_draw (a0 : Nat) (x1 : Int32) (g : GS) : Option (Int32 × GS) :=
  wk_ g a0 1 <|
  dv_ x1 <|
  some ((((gI (pI g a0 15 (((gI g a0 15) * 1103515245) + 12345)) a0 15) >>> ((16 : Int32) &&& 31)) &&& 32767) - (((gI (pI g a0 15 (((gI g a0 15) * 1103515245) + 12345)) a0 15) >>> ((16 : Int32) &&& 31)) &&& 32767) / x1 * x1, pI g a0 15 (((gI g a0 15) * 1103515245) + 12345))
def X1_book_j26 (a0 : Nat) (g : GS) : Option ((Int32 × GS) × Nat × Nat) :=
  wk_ g a0 1 <|
  cb_ (X1_refuse a0 2 g) fun r11 g10 =>
  some ((r11, g10), 0, 0)
/-- RingHand.book(I)I -/
def X1_book (a0 : Nat) (x1 : Int32) (g : GS) : Option ((Int32 × GS) × Nat × Nat) :=
  wk_ g a0 1 <|
  nn_ (gR g a0 9) fun b2 =>
  wk_ g b2 12 <|
  ob_ (J2_size b2 g) fun r6 =>
  if r6 = 16 then
  X1_book_j26 a0 g
else
  ob_ (X1_in x1 12 480) fun r13 =>
    if r13 = 0 then
    X1_book_j26 a0 g
  else
    nn_ (gR g a0 9) fun b15 =>
      ca_ (J19_valueOf x1 g) fun r19 g18 =>
      wk_ g18 b15 12 <|
      ca_ (J2_add b15 r19 g18) fun r25 g24 =>
      wk_ g24 a0 1 <|
      nn_ (gR g24 a0 9) fun b29 =>
      wk_ g24 b29 12 <|
      ob_ (J2_size b29 g24) fun r33 =>
      some ((r33, g24), 0, 0)
/-- RingHand.forget()V -/
def X1_forget (a0 : Nat) (g : GS) : Option ((Unit × GS) × Nat × Nat) :=
  al_ g 12 3 fun u1 g2 =>
  ob_ (J2_init u1 g2) fun g6 =>
  wk_ g6 a0 1 <|
  al_ (pR g6 a0 8 (u1 + 1)) 12 3 fun u8 g9 =>
  ob_ (J2_init u8 g9) fun g13 =>
  wk_ g13 a0 1 <|
  some (((), pR g13 a0 9 (u8 + 1)), 0, 0)
/-- RingHand.image()V -/
def X1_image (a0 : Nat) (g : GS) : Option ((Unit × GS) × Nat × Nat) :=
  wk_ g a0 1 <|
  nn_ (gR g a0 1) fun b2 =>
  wk_ g b2 3 <|
  ca_ (X3_copy b2 g) fun r7 g6 =>
  wk_ g6 a0 1 <|
  al_ (pR g6 a0 11 (r7 + 1)) 12 3 fun u11 g12 =>
  wk_ g12 a0 1 <|
  nn_ (gR g12 a0 7) fun b16 =>
  ca_ (J2_init_2 u11 b16 g12) fun r20 g19 =>
  wk_ g19 a0 1 <|
  al_ (pR g19 a0 12 (u11 + 1)) 12 3 fun u24 g25 =>
  wk_ g25 a0 1 <|
  nn_ (gR g25 a0 8) fun b29 =>
  ca_ (J2_init_2 u24 b29 g25) fun r33 g32 =>
  wk_ g32 a0 1 <|
  al_ (pR g32 a0 13 (u24 + 1)) 12 3 fun u37 g38 =>
  wk_ g38 a0 1 <|
  nn_ (gR g38 a0 9) fun b42 =>
  ca_ (J2_init_2 u37 b42 g38) fun r46 g45 =>
  wk_ g45 a0 1 <|
  some (((), pR g45 a0 14 (u37 + 1)), 0, 0)
/-- RingHand.restore()Z -/
def X1_restore (a0 : Nat) (g : GS) : Option ((Int32 × GS) × Nat × Nat) :=
  wk_ g a0 1 <|
  if (gR g a0 11) = 0 then
  some ((0, g), 0, 0)
else
  nn_ (gR g a0 11) fun b3 =>
    wk_ g b3 3 <|
    ca_ (X3_copy b3 g) fun r8 g7 =>
    wk_ g7 a0 1 <|
    al_ (pR g7 a0 1 (r8 + 1)) 12 3 fun u12 g13 =>
    wk_ g13 a0 1 <|
    nn_ (gR g13 a0 12) fun b17 =>
    ca_ (J2_init_2 u12 b17 g13) fun r21 g20 =>
    wk_ g20 a0 1 <|
    al_ (pR g20 a0 7 (u12 + 1)) 12 3 fun u25 g26 =>
    wk_ g26 a0 1 <|
    nn_ (gR g26 a0 13) fun b30 =>
    ca_ (J2_init_2 u25 b30 g26) fun r34 g33 =>
    wk_ g33 a0 1 <|
    al_ (pR g33 a0 8 (u25 + 1)) 12 3 fun u38 g39 =>
    wk_ g39 a0 1 <|
    nn_ (gR g39 a0 14) fun b43 =>
    ca_ (J2_init_2 u38 b43 g39) fun r47 g46 =>
    wk_ g46 a0 1 <|
    some ((1, pR g46 a0 9 (u38 + 1)), 0, 0)
/-- RingHand.fault()I -/
def X1_fault (a0 : Nat) (g : GS) : Option (Int32) :=
  wk_ g a0 1 <|
  some (gI g a0 5)
def X1_feed_j71 (a0 : Nat) (x1 : Int32) (x2 : Int32) (x3 : Int32) (x4 : Int32) (x5 : Int32) (x6 : Int32) (t0 : Int32) (g : GS) : Option ((Int32 × GS) ⊕ (GS)) :=
  wk_ g a0 1 <|
  nn_ (gR g a0 3) fun b9 =>
  dv_ 4 <|
  wk_ g b9 101 <|
  in_ ((gI g a0 4) + x6) (gN g b9) <|
  nm_ (pI g b9 ((gI g a0 4) + x6).toNatClampNeg (((t0 >>> ((24 - (8 * (x6 - x6 / 4 * 4))) &&& 31)).toInt8.toInt32).toInt8.toInt32)) fun g14 =>
  some (.inl (x6 + 1, g14))
def X1_feed_b18 (a0 : Nat) (x1 : Int32) (x2 : Int32) (x3 : Int32) (x4 : Int32) (x5 : Int32) (x6 : Int32) (g : GS) : Option ((Int32 × GS) ⊕ (GS)) :=
  if 20 ≤ x6 then
  some (.inr g)
else
  if 4 ≤ x6 then
    if 8 ≤ x6 then
      if 12 ≤ x6 then
        if 16 ≤ x6 then
          X1_feed_j71 a0 x1 x2 x3 x4 x5 x6 x5 g
        else
          X1_feed_j71 a0 x1 x2 x3 x4 x5 x6 x4 g
      else
        X1_feed_j71 a0 x1 x2 x3 x4 x5 x6 x3 g
    else
      X1_feed_j71 a0 x1 x2 x3 x4 x5 x6 x2 g
  else
    X1_feed_j71 a0 x1 x2 x3 x4 x5 x6 x1 g
/-- RingHand.feed(IIIII)I -/
def X1_feed (a0 : Nat) (x1 : Int32) (x2 : Int32) (x3 : Int32) (x4 : Int32) (x5 : Int32) (g : GS) : Option (Int32 × GS) :=
  wk_ g a0 1 <|
  if ((gI g a0 4) + 20) ≤ 700 then
  ob_ (lp_ (fun a => X1_feed_b18 a0 x1 x2 x3 x4 x5 a.1 a.2) fu_ (0, g)) fun e18 =>
    wk_ e18 a0 1 <|
    some (gI (pI e18 a0 4 ((gI e18 a0 4) + 20)) a0 4, pI e18 a0 4 ((gI e18 a0 4) + 20))
else
  some ((-1), g)
/-- RingHand.<init>()V -/
def X1_init (a0 : Nat) (g : GS) : Option ((Unit × GS) × Nat × Nat) :=
  al_ g 2 7 fun u1 g2 =>
  ca_ (X2_init u1 g2) fun r7 g6 =>
  wk_ g6 a0 1 <|
  al_ (pR g6 a0 0 (u1 + 1)) 3 7 fun u11 g12 =>
  ca_ (X3_init u11 g12) fun r17 g16 =>
  wk_ g16 a0 1 <|
  na_ 5 <|
  al_ (pR g16 a0 1 (u11 + 1)) 100 ((5 : Int32).toNatClampNeg) fun u21 g22 =>
  wk_ g22 a0 1 <|
  na_ 700 <|
  al_ (pR g22 a0 2 (u21 + 1)) 101 ((700 : Int32).toNatClampNeg) fun u27 g28 =>
  wk_ g28 a0 1 <|
  na_ 3 <|
  al_ (pI (pR g28 a0 3 (u27 + 1)) a0 5 (-1)) 100 ((3 : Int32).toNatClampNeg) fun u33 g34 =>
  wk_ g34 a0 1 <|
  al_ (pR g34 a0 6 (u33 + 1)) 12 3 fun u39 g40 =>
  ob_ (J2_init u39 g40) fun g44 =>
  wk_ g44 a0 1 <|
  al_ (pR g44 a0 7 (u39 + 1)) 12 3 fun u46 g47 =>
  ob_ (J2_init u46 g47) fun g51 =>
  wk_ g51 a0 1 <|
  al_ (pR g51 a0 8 (u46 + 1)) 12 3 fun u53 g54 =>
  ob_ (J2_init u53 g54) fun g58 =>
  wk_ g58 a0 1 <|
  some (((), pR g58 a0 9 (u53 + 1)), 0, 0)

/-! PURE, printed out of the bytecode by wip/D-98610w/gen/comp.py -/
set_option maxRecDepth 100000

/-- RingHand.found(Z)V -/
def X1_found (x0 : Int32) (g : GS) : Option (((Unit ⊕ (Nat × Nat)) × GS) × Nat × Nat) :=
  if x0 = 0 then
  some ((.inr (1, gz g), g), 1, 6)
else
  some ((.inl (), g), 0, 0)
/-- RingHand.right(Z)V -/
def X1_right (x0 : Int32) (g : GS) : Option (((Unit ⊕ (Nat × Nat)) × GS) × Nat × Nat) :=
  if x0 = 0 then
  some ((.inr (2, gz g), g), 1, 6)
else
  some ((.inl (), g), 0, 0)
/-- RingHand.oneOf(II)V -/
def X1_oneOf (x0 : Int32) (x1 : Int32) (g : GS) : Option (((Unit ⊕ (Nat × Nat)) × GS) × Nat × Nat) :=
  ob_ (X1_in x0 0 x1) fun r2 =>
  tc_ (X1_found r2 g) (fun e6 g5 => some ((.inr e6, g5), 0, 0)) fun r4 g5 =>
  some ((.inl (), g5), 0, 0)
/-- RingHand.aMark(I)V -/
def X1_aMark (a0 : Nat) (x1 : Int32) (g : GS) : Option (((Unit ⊕ (Nat × Nat)) × GS) × Nat × Nat) :=
  wk_ g a0 1 <|
  nn_ (gR g a0 1) fun b2 =>
  wk_ g b2 3 <|
  nn_ (gR g b2 6) fun b5 =>
  wk_ g b5 12 <|
  ob_ (J2_size b5 g) fun r9 =>
  ob_ (X1_in x1 0 (r9 - 1)) fun r11 =>
  tc_ (X1_found r11 g) (fun e15 g14 => some ((.inr e15, g14), 0, 0)) fun r13 g14 =>
  some ((.inl (), g14), 0, 0)
/-- RingHand.aTenth(I)V -/
def X1_aTenth (a0 : Nat) (x1 : Int32) (g : GS) : Option (((Unit ⊕ (Nat × Nat)) × GS) × Nat × Nat) :=
  wk_ g a0 1 <|
  nn_ (gR g a0 0) fun b2 =>
  wk_ g b2 2 <|
  ob_ (X1_in x1 0 (gI g b2 6)) fun r6 =>
  tc_ (X1_found r6 g) (fun e10 g9 => some ((.inr e10, g9), 0, 0)) fun r8 g9 =>
  some ((.inl (), g9), 0, 0)
/-- RingHand.mark(I)I -/
def X1_mark (a0 : Nat) (x1 : Int32) (g : GS) : Option (((Int32 ⊕ (Nat × Nat)) × GS) × Nat × Nat) :=
  wk_ g a0 1 <|
  tc_ (X1_aMark a0 x1 g) (fun e5 g4 => some ((.inr e5, g4), 0, 0)) fun r3 g4 =>
  wk_ g4 a0 1 <|
  nn_ (gR g4 a0 1) fun b9 =>
  wk_ g4 b9 3 <|
  nn_ (gR g4 b9 6) fun b12 =>
  wk_ g4 b12 12 <|
  ob_ (J2_get b12 x1 g4) fun r16 =>
  rk_ g4 r16 14 <|
  ob_ (J19_intValue r16 g4) fun r19 =>
  some ((.inl r19, g4), 0, 0)
def X1_inches_j33 (t0 : Nat) (t1 : Int32) (t2 : Int32) (g : GS) : Option (((Int32 ⊕ (Nat × Nat)) × GS) × Nat × Nat) :=
  wk_ g t0 10 <|
  ob_ (X11_inches t0 t1 t2 g) fun r29 =>
  some ((.inl r29, g), 0, 0)
/-- RingHand.inches(II)I -/
def X1_inches (a0 : Nat) (x1 : Int32) (x2 : Int32) (g : GS) : Option (((Int32 ⊕ (Nat × Nat)) × GS) × Nat × Nat) :=
  wk_ g a0 1 <|
  tc_ (X1_aTenth a0 x1 g) (fun e5 g4 => some ((.inr e5, g4), 0, 0)) fun r3 g4 =>
  tc_ (X1_oneOf x2 1 g4) (fun e11 g10 => some ((.inr e11, g10), 0, 0)) fun r9 g10 =>
  al_ g10 10 8 fun u14 g15 =>
  wk_ g15 a0 1 <|
  nn_ (gR g15 a0 1) fun b19 =>
  ca_ (X11_init u14 a0 b19 g15) fun r23 g22 =>
  if x2 = 1 then
  X1_inches_j33 u14 x1 1 g22
else
  X1_inches_j33 u14 x1 0 g22
/-- RingHand.turn(I)I -/
def X1_turn (a0 : Nat) (x1 : Int32) (g : GS) : Option (((Int32 ⊕ (Nat × Nat)) × GS) × Nat × Nat) :=
  ob_ (X1_in x1 12 480) fun r2 =>
  tc_ (X1_right r2 g) (fun e6 g5 => some ((.inr e6, g5), 0, 0)) fun r4 g5 =>
  wk_ g5 a0 1 <|
  cb_ (X1_turnOf a0 x1 g5) fun r12 g11 =>
  some ((.inl r12, g11), 0, 0)

/-! PURE, printed out of the bytecode by wip/D-98610w/gen/comp.py -/
set_option maxRecDepth 100000

/-- RingHand.tenth(II)I -/
def X1_tenth (a0 : Nat) (x1 : Int32) (x2 : Int32) (g : GS) : Option (((Int32 ⊕ (Nat × Nat)) × GS) × Nat × Nat) :=
  wk_ g a0 1 <|
  tc_ (X1_aTenth a0 x1 g) (fun e5 g4 => some ((.inr e5, g4), 0, 0)) fun r3 g4 =>
  tc_ (X1_oneOf x2 5 g4) (fun e11 g10 => some ((.inr e11, g10), 0, 0)) fun r9 g10 =>
  if x2 = 0 then
  wk_ g10 a0 1 <|
    nn_ (gR g10 a0 0) fun b50 =>
    wk_ g10 b50 2 <|
    ob_ (X2_isHis b50 x1 g10) fun r54 =>
    if r54 = 0 then
    some ((.inl 0, g10), 0, 0)
  else
    some ((.inl 1, g10), 0, 0)
else
  wk_ g10 a0 1 <|
    ca_ (X1_take a0 g10) fun r18 g17 =>
    if x2 = 1 then
    wk_ g17 r18 10 <|
      nn_ (gR g17 r18 1) fun b23 =>
      rk_ g17 b23 100 <|
      in_ x1 (gN g17 b23) <|
      some ((.inl (gI g17 b23 x1.toNatClampNeg), g17), 0, 0)
  else
    if x2 = 2 then
      wk_ g17 r18 10 <|
        nn_ (gR g17 r18 2) fun b29 =>
        rk_ g17 b29 100 <|
        in_ x1 (gN g17 b29) <|
        some ((.inl (gI g17 b29 x1.toNatClampNeg), g17), 0, 0)
    else
      if x2 = 3 then
        wk_ g17 r18 10 <|
          nn_ (gR g17 r18 3) fun b35 =>
          rk_ g17 b35 100 <|
          in_ x1 (gN g17 b35) <|
          some ((.inl (gI g17 b35 x1.toNatClampNeg), g17), 0, 0)
      else
        if x2 = 4 then
          wk_ g17 r18 10 <|
            ob_ (X11_isSharp_2 r18 x1 g17) fun r42 =>
            if r42 = 0 then
            some ((.inl 0, g17), 0, 0)
          else
            some ((.inl 1, g17), 0, 0)
        else
          wk_ g17 r18 10 <|
            cb_ (X11_shows r18 x1 g17) fun r47 g46 =>
            if r47 = 0 then
            some ((.inl 0, g46), 0, 0)
          else
            some ((.inl 1, g46), 0, 0)
/-- RingHand.all(I)I -/
def X1_all (a0 : Nat) (x1 : Int32) (g : GS) : Option (((Int32 ⊕ (Nat × Nat)) × GS) × Nat × Nat) :=
  tc_ (X1_oneOf x1 6 g) (fun e4 g3 => some ((.inr e4, g3), 0, 0)) fun r2 g3 =>
  wk_ g3 a0 1 <|
  ca_ (X1_take a0 g3) fun r10 g9 =>
  if x1 = 0 then
  wk_ g9 r10 10 <|
    ob_ (X11_sharp r10 g9) fun r16 =>
    some ((.inl r16, g9), 0, 0)
else
  if x1 = 1 then
    wk_ g9 r10 10 <|
      ob_ (X11_worst r10 g9) fun r20 =>
      some ((.inl r20, g9), 0, 0)
  else
    if x1 = 2 then
      wk_ g9 r10 10 <|
        ob_ (X11_longestSoft r10 g9) fun r24 =>
        some ((.inl r24, g9), 0, 0)
    else
      if x1 = 3 then
        wk_ g9 r10 10 <|
          ob_ (X11_firstSoft r10 g9) fun r28 =>
          some ((.inl r28, g9), 0, 0)
      else
        if x1 = 4 then
          wk_ g9 r10 10 <|
            ob_ (X11_swings r10 g9) fun r32 =>
            some ((.inl r32, g9), 0, 0)
        else
          if x1 = 5 then
            wk_ g9 r10 10 <|
              cb_ (X11_shown r10 g9) fun r37 g36 =>
              some ((.inl r37, g36), 0, 0)
          else
            wk_ g9 r10 10 <|
              ob_ (X11_turned r10 g9) fun r40 =>
              some ((.inl r40, g9), 0, 0)
/-- RingHand.count(I)I -/
def X1_count (a0 : Nat) (x1 : Int32) (g : GS) : Option (((Int32 ⊕ (Nat × Nat)) × GS) × Nat × Nat) :=
  if x1 = 0 then
  wk_ g a0 1 <|
    nn_ (gR g a0 0) fun b3 =>
    wk_ g b3 2 <|
    some ((.inl (gI g b3 6), g), 0, 0)
else
  if x1 = 1 then
    wk_ g a0 1 <|
      nn_ (gR g a0 0) fun b8 =>
      wk_ g b8 2 <|
      nn_ (gR g b8 0) fun b11 =>
      wk_ g b11 12 <|
      ob_ (J2_size b11 g) fun r15 =>
      some ((.inl r15, g), 0, 0)
  else
    if x1 = 2 then
      wk_ g a0 1 <|
        nn_ (gR g a0 0) fun b18 =>
        wk_ g b18 2 <|
        nn_ (gR g b18 1) fun b21 =>
        wk_ g b21 12 <|
        ob_ (J2_size b21 g) fun r25 =>
        some ((.inl r25, g), 0, 0)
    else
      if x1 = 3 then
        wk_ g a0 1 <|
          nn_ (gR g a0 1) fun b28 =>
          wk_ g b28 3 <|
          nn_ (gR g b28 6) fun b31 =>
          wk_ g b31 12 <|
          ob_ (J2_size b31 g) fun r35 =>
          some ((.inl r35, g), 0, 0)
      else
        if x1 = 4 then
          wk_ g a0 1 <|
            nn_ (gR g a0 0) fun b38 =>
            wk_ g b38 2 <|
            nn_ (gR g b38 2) fun b41 =>
            wk_ g b41 12 <|
            ob_ (J2_size b41 g) fun r45 =>
            some ((.inl r45, g), 0, 0)
        else
          if x1 = 5 then
            wk_ g a0 1 <|
              nn_ (gR g a0 1) fun b48 =>
              wk_ g b48 3 <|
              some ((.inl (gI g b48 4), g), 0, 0)
          else
            if x1 = 6 then
              wk_ g a0 1 <|
                nn_ (gR g a0 1) fun b53 =>
                wk_ g b53 3 <|
                some ((.inl (gI g b53 0), g), 0, 0)
            else
              if x1 = 7 then
                wk_ g a0 1 <|
                  nn_ (gR g a0 1) fun b58 =>
                  wk_ g b58 3 <|
                  some ((.inl (gI g b58 1), g), 0, 0)
              else
                if x1 = 8 then
                  wk_ g a0 1 <|
                    nn_ (gR g a0 1) fun b63 =>
                    wk_ g b63 3 <|
                    some ((.inl (gI g b63 2), g), 0, 0)
                else
                  if x1 = 9 then
                    wk_ g a0 1 <|
                      nn_ (gR g a0 1) fun b68 =>
                      wk_ g b68 3 <|
                      some ((.inl (gI g b68 3), g), 0, 0)
                  else
                    if x1 = 10 then
                      wk_ g a0 1 <|
                        nn_ (gR g a0 1) fun b73 =>
                        wk_ g b73 3 <|
                        some ((.inl (gI g b73 5), g), 0, 0)
                    else
                      if x1 = 11 then
                        wk_ g a0 1 <|
                          nn_ (gR g a0 7) fun b78 =>
                          wk_ g b78 12 <|
                          ob_ (J2_size b78 g) fun r82 =>
                          some ((.inl r82, g), 0, 0)
                      else
                        if x1 = 12 then
                          wk_ g a0 1 <|
                            nn_ (gR g a0 8) fun b85 =>
                            wk_ g b85 12 <|
                            ob_ (J2_size b85 g) fun r89 =>
                            some ((.inl r89, g), 0, 0)
                        else
                          if x1 = 13 then
                            wk_ g a0 1 <|
                              nn_ (gR g a0 9) fun b92 =>
                              wk_ g b92 12 <|
                              ob_ (J2_size b92 g) fun r96 =>
                              some ((.inl r96, g), 0, 0)
                          else
                            if x1 = 14 then
                              wk_ g a0 1 <|
                                some ((.inl (gI g a0 4), g), 0, 0)
                            else
                              ob_ (X1_in x1 15 17) fun r100 =>
                                tc_ (X1_found r100 g) (fun e104 g103 => some ((.inr e104, g103), 0, 0)) fun r102 g103 =>
                                wk_ g103 a0 1 <|
                                nn_ (gR g103 a0 6) fun b108 =>
                                rk_ g103 b108 100 <|
                                in_ (x1 - 15) (gN g103 b108) <|
                                some ((.inl (gI g103 b108 (x1 - 15).toNatClampNeg), g103), 0, 0)
def X1_chalk_j36 (a0 : Nat) (g : GS) : Option (((Int32 ⊕ (Nat × Nat)) × GS) × Nat × Nat) :=
  wk_ g a0 1 <|
  cb_ (X1_refuse a0 1 g) fun r14 g13 =>
  some ((.inl r14, g13), 0, 0)
/-- RingHand.chalk(II)I -/
def X1_chalk (a0 : Nat) (x1 : Int32) (x2 : Int32) (g : GS) : Option (((Int32 ⊕ (Nat × Nat)) × GS) × Nat × Nat) :=
  wk_ g a0 1 <|
  tc_ (X1_aMark a0 x1 g) (fun e5 g4 => some ((.inr e5, g4), 0, 0)) fun r3 g4 =>
  ob_ (X1_in x2 12 480) fun r9 =>
  if r9 = 0 then
  X1_chalk_j36 a0 g4
else
  wk_ g4 a0 1 <|
    nn_ (gR g4 a0 1) fun b16 =>
    wk_ g4 b16 3 <|
    nn_ (gR g4 b16 6) fun b19 =>
    ca_ (J19_valueOf x2 g4) fun r23 g22 =>
    wk_ g22 b19 12 <|
    ob_ (J2_contains b19 r23 g22) fun r28 =>
    if r28 = 0 then
    wk_ g22 a0 1 <|
      ca_ (X1_keep a0 g22) fun r33 g32 =>
      wk_ g32 a0 1 <|
      nn_ (gR g32 a0 1) fun b37 =>
      wk_ g32 b37 3 <|
      nn_ (gR g32 b37 6) fun b40 =>
      ca_ (J19_valueOf x2 g32) fun r44 g43 =>
      wk_ g43 b40 12 <|
      cb_ (J2_set b40 x1 r44 g43) fun r50 g49 =>
      rk_ g49 r50 14 <|
      ob_ (J19_intValue r50 g49) fun r53 =>
      some ((.inl r53, g49), 0, 0)
  else
    X1_chalk_j36 a0 g22
def X1_best_j115 (a0 : Nat) (x1 : Int32) (a2 : Nat) (x3 : Int32) (x4 : Int32) (x5 : Int32) (g : GS) : Option (((Int32 × Int32 × Int32 × GS) ⊕ (Int32 × Int32 × GS)) × Nat × Nat) :=
  some (.inl (x3, x4, x5 + 1, g), 0, 0)
def X1_best_j108 (a0 : Nat) (x1 : Int32) (a2 : Nat) (x5 : Int32) (x6 : Int32) (g : GS) : Option (((Int32 × Int32 × Int32 × GS) ⊕ (Int32 × Int32 × GS)) × Nat × Nat) :=
  X1_best_j115 a0 x1 a2 x5 x6 x5 g
def X1_best_j76 (a0 : Nat) (x1 : Int32) (a2 : Nat) (x3 : Int32) (x4 : Int32) (x5 : Int32) (t0 : Int32) (g : GS) : Option (((Int32 × Int32 × Int32 × GS) ⊕ (Int32 × Int32 × GS)) × Nat × Nat) :=
  if x3 = (-1) then
  X1_best_j108 a0 x1 a2 x5 t0 g
else
  if 2 ≤ x1 then
    if t0 < x4 then
      X1_best_j108 a0 x1 a2 x5 t0 g
    else
      X1_best_j115 a0 x1 a2 x3 x4 x5 g
  else
    if x4 < t0 then
      X1_best_j108 a0 x1 a2 x5 t0 g
    else
      X1_best_j115 a0 x1 a2 x3 x4 x5 g
def X1_best_b29 (a0 : Nat) (x1 : Int32) (a2 : Nat) (x3 : Int32) (x4 : Int32) (x5 : Int32) (g : GS) : Option (((Int32 × Int32 × Int32 × GS) ⊕ (Int32 × Int32 × GS)) × Nat × Nat) :=
  wk_ g a0 1 <|
  nn_ (gR g a0 0) fun b26 =>
  wk_ g b26 2 <|
  nn_ (gR g b26 2) fun b29 =>
  wk_ g b29 12 <|
  ob_ (J2_size b29 g) fun r33 =>
  if r33 ≤ x5 then
  some (.inr (x3, x4, g), 0, 0)
else
  wk_ g a2 10 <|
    nn_ (gR g a2 0) fun b36 =>
    wk_ g b36 3 <|
    cb_ (X11_run a2 (pI g b36 4 x5)) fun r41 g40 =>
    if 2 ≤ x1 then
    wk_ g40 a2 10 <|
      ob_ (X11_worst a2 g40) fun r45 =>
      X1_best_j76 a0 x1 a2 x3 x4 x5 r45 g40
  else
    wk_ g40 a2 10 <|
      ob_ (X11_sharp a2 g40) fun r52 =>
      X1_best_j76 a0 x1 a2 x3 x4 x5 r52 g40
/-- RingHand.best(I)I -/
def X1_best (a0 : Nat) (x1 : Int32) (g : GS) : Option (((Int32 ⊕ (Nat × Nat)) × GS) × Nat × Nat) :=
  tc_ (X1_oneOf x1 3 g) (fun e4 g3 => some ((.inr e4, g3), 0, 0)) fun r2 g3 =>
  al_ g3 10 8 fun u7 g8 =>
  wk_ g8 a0 1 <|
  nn_ (gR g8 a0 1) fun b12 =>
  wk_ g8 b12 3 <|
  ca_ (X3_copy b12 g8) fun r17 g16 =>
  ca_ (X11_init u7 a0 r17 g16) fun r22 g21 =>
  oa_ (la_ (fun a => X1_best_b29 a0 x1 u7 a.1 a.2.1 a.2.2.1 a.2.2.2) fu_ ((-1), (-1), 0, g21)) fun e53 =>
  dv_ 2 <|
  if (x1 - x1 / 2 * 2) = 0 then
  some ((.inl e53.1, e53.2.2), 0, 0)
else
  some ((.inl e53.2.1, e53.2.2), 0, 0)
def X1_foretell_j86 (x1 : Int32) (a2 : Nat) (x3 : Int32) (x4 : Int32) (x5 : Int32) (g : GS) : Option (((Int32 × Int32 × Int32 × GS) ⊕ (Int32 × Int32 × GS)) × Nat × Nat) :=
  some (.inl (x3, x4, x5 + 1, g), 0, 0)
def X1_foretell_j55 (x1 : Int32) (a2 : Nat) (x3 : Int32) (x4 : Int32) (x5 : Int32) (t0 : Nat) (t1 : Int32) (g : GS) : Option (((Int32 × Int32 × Int32 × GS) ⊕ (Int32 × Int32 × GS)) × Nat × Nat) :=
  wk_ g t0 10 <|
  wk_ (pI g t0 5 t1) a2 10 <|
  cb_ (X11_run a2 (pI g t0 5 t1)) fun r27 g26 =>
  wk_ g26 r27 10 <|
  ob_ (X11_sharp r27 g26) fun r30 =>
  if x4 < r30 then
  wk_ g26 a2 10 <|
    X1_foretell_j86 x1 a2 (gI g26 a2 5) r30 x5 g26
else
  X1_foretell_j86 x1 a2 x3 x4 x5 g26
def X1_foretell_b26 (x1 : Int32) (a2 : Nat) (x3 : Int32) (x4 : Int32) (x5 : Int32) (g : GS) : Option (((Int32 × Int32 × Int32 × GS) ⊕ (Int32 × Int32 × GS)) × Nat × Nat) :=
  if 48 < x5 then
  some (.inr (x3, x4, g), 0, 0)
else
  dv_ 2 <|
    if (x5 - x5 / 2 * 2) = 0 then
    dv_ 2 <|
      X1_foretell_j55 x1 a2 x3 x4 x5 a2 (x5 / 2) g
  else
    dv_ 2 <|
      X1_foretell_j55 x1 a2 x3 x4 x5 a2 ((-(x5 + 1)) / 2) g
/-- RingHand.foretell(I)I -/
def X1_foretell (a0 : Nat) (x1 : Int32) (g : GS) : Option (((Int32 ⊕ (Nat × Nat)) × GS) × Nat × Nat) :=
  tc_ (X1_oneOf x1 1 g) (fun e4 g3 => some ((.inr e4, g3), 0, 0)) fun r2 g3 =>
  al_ g3 10 8 fun u7 g8 =>
  wk_ g8 a0 1 <|
  nn_ (gR g8 a0 1) fun b12 =>
  ca_ (X11_init u7 a0 b12 g8) fun r16 g15 =>
  oa_ (la_ (fun a => X1_foretell_b26 x1 u7 a.1 a.2.1 a.2.2.1 a.2.2.2) fu_ (0, (-1), 0, g15)) fun e34 =>
  if x1 = 0 then
  some ((.inl e34.1, e34.2.2), 0, 0)
else
  some ((.inl e34.2.1, e34.2.2), 0, 0)
def X1_holes_b18 (x1 : Int32) (a2 : Nat) (x3 : Int32) (g : GS) : Option (((Int32 × GS) ⊕ (((Int32 × GS) ⊕ (GS)))) × Nat × Nat) :=
  if 60 < x3 then
  some (.inr (.inr g), 0, 0)
else
  wk_ g a2 10 <|
    ob_ (X11_sharp_2 a2 x3 g) fun r18 =>
    if r18 < x1 then
    some (.inl (x3 + 1, g), 0, 0)
  else
    some (.inr (.inl (x3, g)), 0, 0)
/-- RingHand.holes(I)I -/
def X1_holes (a0 : Nat) (x1 : Int32) (g : GS) : Option (((Int32 ⊕ (Nat × Nat)) × GS) × Nat × Nat) :=
  ob_ (X1_in x1 0 601) fun r2 =>
  tc_ (X1_right r2 g) (fun e6 g5 => some ((.inr e6, g5), 0, 0)) fun r4 g5 =>
  wk_ g5 a0 1 <|
  ca_ (X1_take a0 g5) fun r12 g11 =>
  oa_ (la_ (fun a => X1_holes_b18 x1 r12 a.1 a.2) fu_ (1, g11)) fun e20 =>
  Sum.elim (fun e20a => some ((.inl e20a.1, e20a.2), 0, 0)) (fun e20b => some ((.inl (-1), e20b), 0, 0)) e20
def X1_light_j146 (a0 : Nat) (x1 : Int32) (x2 : Int32) (a3 : Nat) (x4 : Int32) (x5 : Int64) (x7 : Int64) (x9 : Int32) (g : GS) : Option (((Int32 × Int64 × Int64 × Int32 × GS) ⊕ (Int32 × GS)) × Nat × Nat) :=
  some (.inl (x4, x5, x7, x9 + 1, g), 0, 0)
def X1_light_j134 (a0 : Nat) (x1 : Int32) (x2 : Int32) (a3 : Nat) (x9 : Int32) (x10 : Int64) (x12 : Int64) (g : GS) : Option (((Int32 × Int64 × Int64 × Int32 × GS) ⊕ (Int32 × GS)) × Nat × Nat) :=
  X1_light_j146 a0 x1 x2 a3 x9 x12 x10 x9 g
def X1_light_b45 (a0 : Nat) (x1 : Int32) (x2 : Int32) (a3 : Nat) (x4 : Int32) (x5 : Int64) (x7 : Int64) (x9 : Int32) (g : GS) : Option (((Int32 × Int64 × Int64 × Int32 × GS) ⊕ (Int32 × GS)) × Nat × Nat) :=
  wk_ g a0 1 <|
  nn_ (gR g a0 1) fun b17 =>
  wk_ g b17 3 <|
  if (60 - (gI g b17 0)) < x9 then
  some (.inr (x4, g), 0, 0)
else
  nn_ (gR g a0 1) fun b21 =>
    wk_ g b21 3 <|
    wk_ g a3 10 <|
    ob_ (X11_sharp_2 a3 ((gI g b21 0) + x9) g) fun r26 =>
    if (lg_cmp r26.toInt64 0) = 0 then
    X1_light_j146 a0 x1 x2 a3 x4 x5 x7 x9 g
  else
    nn_ (gR g a0 0) fun b28 =>
      wk_ g b28 2 <|
      if x4 = (-1) then
      X1_light_j134 a0 x1 x2 a3 x9 r26.toInt64 ((((x9 * x1).toInt64) * r26.toInt64) + (x2.toInt64 * (((gI g b28 6) + 1).toInt64))) g
    else
      if (lg_cmp (((((x9 * x1).toInt64) * r26.toInt64) + (x2.toInt64 * (((gI g b28 6) + 1).toInt64))) * x7) (x5 * r26.toInt64)) < 0 then
        X1_light_j134 a0 x1 x2 a3 x9 r26.toInt64 ((((x9 * x1).toInt64) * r26.toInt64) + (x2.toInt64 * (((gI g b28 6) + 1).toInt64))) g
      else
        X1_light_j146 a0 x1 x2 a3 x4 x5 x7 x9 g
def X1_light_j25 (a0 : Nat) (x1 : Int32) (x2 : Int32) (t0 : Int32) (g : GS) : Option (((Int32 ⊕ (Nat × Nat)) × GS) × Nat × Nat) :=
  tc_ (X1_right t0 g) (fun e7 g6 => some ((.inr e7, g6), 0, 0)) fun r5 g6 =>
  wk_ g6 a0 1 <|
  ca_ (X1_take a0 g6) fun r13 g12 =>
  oa_ (la_ (fun a => X1_light_b45 a0 x1 x2 r13 a.1 a.2.1 a.2.2.1 a.2.2.2.1 a.2.2.2.2) fu_ ((-1), 0, 1, 0, g12)) fun e33 =>
  some ((.inl e33.1, e33.2), 0, 0)
def X1_light_j24 (a0 : Nat) (x1 : Int32) (x2 : Int32) (g : GS) : Option (((Int32 ⊕ (Nat × Nat)) × GS) × Nat × Nat) :=
  X1_light_j25 a0 x1 x2 0 g
/-- RingHand.light(II)I -/
def X1_light (a0 : Nat) (x1 : Int32) (x2 : Int32) (g : GS) : Option (((Int32 ⊕ (Nat × Nat)) × GS) × Nat × Nat) :=
  ob_ (X1_in x1 0 99) fun r2 =>
  if r2 = 0 then
  X1_light_j24 a0 x1 x2 g
else
  ob_ (X1_in x2 1 99) fun r37 =>
    if r37 = 0 then
    X1_light_j24 a0 x1 x2 g
  else
    X1_light_j25 a0 x1 x2 1 g
def X1_marks_j54 (a2 : Nat) (g : GS) : Option (((Int32 ⊕ (Nat × Nat)) × GS) × Nat × Nat) :=
  wk_ g a2 11 <|
  some ((.inl (gI g a2 3), g), 0, 0)
/-- RingHand.marks(I)I -/
def X1_marks (a0 : Nat) (x1 : Int32) (g : GS) : Option (((Int32 ⊕ (Nat × Nat)) × GS) × Nat × Nat) :=
  ob_ (X1_in x1 0 3) fun r2 =>
  tc_ (X1_right r2 g) (fun e6 g5 => some ((.inr e6, g5), 0, 0)) fun r4 g5 =>
  al_ g5 11 5 fun u9 g10 =>
  ca_ (X12_init u9 a0 g10) fun r15 g14 =>
  wk_ g14 u9 11 <|
  nn_ (gR g14 u9 1) fun b19 =>
  wk_ g14 b19 10 <|
  nn_ (gR g14 b19 0) fun b22 =>
  wk_ g14 b22 3 <|
  nn_ (gR g14 b22 6) fun b25 =>
  wk_ g14 b25 12 <|
  ob_ (J2_clear b25 g14) fun g29 =>
  wk_ g29 u9 11 <|
  ca_ (X12_go u9 0 x1 g29) fun r33 g32 =>
  wk_ g32 u9 11 <|
  if (gR g32 u9 2) = 0 then
  X1_marks_j54 u9 g32
else
  nn_ (gR g32 u9 2) fun b39 =>
    wk_ g32 a0 1 <|
    X1_marks_j54 u9 (pR g32 a0 10 (b39 + 1))
def X1_kept_2_j29 (a0 : Nat) (x1 : Int32) (t0 : Int32) (g : GS) : Option (((Int32 ⊕ (Nat × Nat)) × GS) × Nat × Nat) :=
  tc_ (X1_found t0 g) (fun e6 g5 => some ((.inr e6, g5), 0, 0)) fun r4 g5 =>
  wk_ g5 a0 1 <|
  nn_ (gR g5 a0 10) fun b10 =>
  wk_ g5 b10 12 <|
  ob_ (J2_get b10 x1 g5) fun r14 =>
  rk_ g5 r14 14 <|
  ob_ (J19_intValue r14 g5) fun r17 =>
  some ((.inl r17, g5), 0, 0)
def X1_kept_2_j28 (a0 : Nat) (x1 : Int32) (g : GS) : Option (((Int32 ⊕ (Nat × Nat)) × GS) × Nat × Nat) :=
  X1_kept_2_j29 a0 x1 0 g
/-- RingHand.kept(I)I -/
def X1_kept_2 (a0 : Nat) (x1 : Int32) (g : GS) : Option (((Int32 ⊕ (Nat × Nat)) × GS) × Nat × Nat) :=
  wk_ g a0 1 <|
  if (gR g a0 10) = 0 then
  X1_kept_2_j28 a0 x1 g
else
  if x1 < 0 then
    X1_kept_2_j28 a0 x1 g
  else
    nn_ (gR g a0 10) fun b19 =>
      wk_ g b19 12 <|
      ob_ (J2_size b19 g) fun r23 =>
      if r23 ≤ x1 then
      X1_kept_2_j28 a0 x1 g
    else
      X1_kept_2_j29 a0 x1 1 g
def X1_runs_j97 (a0 : Nat) (x1 : Int32) (x2 : Int32) (a3 : Nat) (x4 : Int32) (x5 : Int32) (x6 : Int32) (g : GS) : Option (((Int32 × Int32 × Int32 × GS) ⊕ (((Int32 × Int32 × GS) ⊕ (Int32 × GS)))) × Nat × Nat) :=
  some (.inl (x4, x5, x6 + 1, g), 0, 0)
def X1_runs_j94 (a0 : Nat) (x1 : Int32) (x2 : Int32) (a3 : Nat) (x4 : Int32) (x6 : Int32) (g : GS) : Option (((Int32 × Int32 × Int32 × GS) ⊕ (((Int32 × Int32 × GS) ⊕ (Int32 × GS)))) × Nat × Nat) :=
  X1_runs_j97 a0 x1 x2 a3 x4 0 x6 g
def X1_runs_j86 (a0 : Nat) (x1 : Int32) (x2 : Int32) (a3 : Nat) (x4 : Int32) (x5 : Int32) (x6 : Int32) (g : GS) : Option (((Int32 × Int32 × Int32 × GS) ⊕ (((Int32 × Int32 × GS) ⊕ (Int32 × GS)))) × Nat × Nat) :=
  if x5 ≤ 0 then
  X1_runs_j94 a0 x1 x2 a3 x4 x6 g
else
  X1_runs_j94 a0 x1 x2 a3 (x4 + 1) x6 g
def X1_runs_j60 (a0 : Nat) (x1 : Int32) (x2 : Int32) (a3 : Nat) (x4 : Int32) (x5 : Int32) (x6 : Int32) (g : GS) : Option (((Int32 × Int32 × Int32 × GS) ⊕ (((Int32 × Int32 × GS) ⊕ (Int32 × GS)))) × Nat × Nat) :=
  if x5 ≤ 0 then
  X1_runs_j86 a0 x1 x2 a3 x4 x5 x6 g
else
  if x4 = x1 then
    some (.inr (.inl (x5, x6, g)), 0, 0)
  else
    X1_runs_j86 a0 x1 x2 a3 x4 x5 x6 g
def X1_runs_b19 (a0 : Nat) (x1 : Int32) (x2 : Int32) (a3 : Nat) (x4 : Int32) (x5 : Int32) (x6 : Int32) (g : GS) : Option (((Int32 × Int32 × Int32 × GS) ⊕ (((Int32 × Int32 × GS) ⊕ (Int32 × GS)))) × Nat × Nat) :=
  wk_ g a0 1 <|
  nn_ (gR g a0 0) fun b14 =>
  wk_ g b14 2 <|
  if ((gI g b14 6) + 1) < x6 then
  some (.inr (.inr (x4, g)), 0, 0)
else
  nn_ (gR g a0 0) fun b18 =>
    wk_ g b18 2 <|
    if (gI g b18 6) < x6 then
    X1_runs_j60 a0 x1 x2 a3 x4 x5 x6 g
  else
    wk_ g a3 10 <|
      ob_ (X11_isSharp_2 a3 x6 g) fun r27 =>
      if r27 = 0 then
      X1_runs_j97 a0 x1 x2 a3 x4 (x5 + 1) x6 g
    else
      X1_runs_j60 a0 x1 x2 a3 x4 x5 x6 g
def X1_runs_j113 (x4 : Int32) (t0 : Int32) (g : GS) : Option (((Int32 ⊕ (Nat × Nat)) × GS) × Nat × Nat) :=
  tc_ (X1_found t0 g) (fun e37 g36 => some ((.inr e37, g36), 0, 0)) fun r35 g36 =>
  some ((.inl x4, g36), 0, 0)
/-- RingHand.runs(II)I -/
def X1_runs (a0 : Nat) (x1 : Int32) (x2 : Int32) (g : GS) : Option (((Int32 ⊕ (Nat × Nat)) × GS) × Nat × Nat) :=
  tc_ (X1_oneOf x2 1 g) (fun e4 g3 => some ((.inr e4, g3), 0, 0)) fun r2 g3 =>
  wk_ g3 a0 1 <|
  ca_ (X1_take a0 g3) fun r10 g9 =>
  oa_ (la_ (fun a => X1_runs_b19 a0 x1 x2 r10 a.1 a.2.1 a.2.2.1 a.2.2.2) fu_ (0, 0, 0, g9)) fun e29 =>
  Sum.elim (fun e29a => if x2 = 0 then
  some ((.inl (e29a.2.1 - e29a.1), e29a.2.2), 0, 0)
else
  some ((.inl e29a.1, e29a.2.2), 0, 0)) (fun e29b => if x1 = (-1) then
  X1_runs_j113 e29b.1 1 e29b.2
else
  X1_runs_j113 e29b.1 0 e29b.2) e29
def X1_shift_j86 (x1 : Int32) (a2 : Nat) (x3 : Int32) (x4 : Int32) (x5 : Int32) (g : GS) : Option (((Int32 × Int32 × Int32 × GS) ⊕ (Int32 × Int32 × GS)) × Nat × Nat) :=
  some (.inl (x3, x4, x5 + 1, g), 0, 0)
def X1_shift_j55 (x1 : Int32) (a2 : Nat) (x3 : Int32) (x4 : Int32) (x5 : Int32) (t0 : Nat) (t1 : Int32) (g : GS) : Option (((Int32 × Int32 × Int32 × GS) ⊕ (Int32 × Int32 × GS)) × Nat × Nat) :=
  wk_ g t0 10 <|
  wk_ (pI g t0 6 t1) a2 10 <|
  cb_ (X11_run a2 (pI g t0 6 t1)) fun r27 g26 =>
  wk_ g26 r27 10 <|
  ob_ (X11_sharp r27 g26) fun r30 =>
  if x4 < r30 then
  wk_ g26 a2 10 <|
    X1_shift_j86 x1 a2 (gI g26 a2 6) r30 x5 g26
else
  X1_shift_j86 x1 a2 x3 x4 x5 g26
def X1_shift_b26 (x1 : Int32) (a2 : Nat) (x3 : Int32) (x4 : Int32) (x5 : Int32) (g : GS) : Option (((Int32 × Int32 × Int32 × GS) ⊕ (Int32 × Int32 × GS)) × Nat × Nat) :=
  if 48 < x5 then
  some (.inr (x3, x4, g), 0, 0)
else
  dv_ 2 <|
    if (x5 - x5 / 2 * 2) = 0 then
    dv_ 2 <|
      X1_shift_j55 x1 a2 x3 x4 x5 a2 (x5 / 2) g
  else
    dv_ 2 <|
      X1_shift_j55 x1 a2 x3 x4 x5 a2 ((-(x5 + 1)) / 2) g
/-- RingHand.shift(I)I -/
def X1_shift (a0 : Nat) (x1 : Int32) (g : GS) : Option (((Int32 ⊕ (Nat × Nat)) × GS) × Nat × Nat) :=
  tc_ (X1_oneOf x1 1 g) (fun e4 g3 => some ((.inr e4, g3), 0, 0)) fun r2 g3 =>
  al_ g3 10 8 fun u7 g8 =>
  wk_ g8 a0 1 <|
  nn_ (gR g8 a0 1) fun b12 =>
  ca_ (X11_init u7 a0 b12 g8) fun r16 g15 =>
  oa_ (la_ (fun a => X1_shift_b26 x1 u7 a.1 a.2.1 a.2.2.1 a.2.2.2) fu_ (0, (-1), 0, g15)) fun e34 =>
  if x1 = 0 then
  some ((.inl e34.1, e34.2.2), 0, 0)
else
  some ((.inl e34.2.1, e34.2.2), 0, 0)
def X1_slip_j70 (x1 : Int32) (a2 : Nat) (x3 : Int32) (x4 : Int32) (g : GS) : Option (((Int32 × Int32 × GS) ⊕ (Int32 × Int32 × GS)) × Nat × Nat) :=
  wk_ g a2 10 <|
  some (.inl (x3, x4, pI g a2 4 ((gI g a2 4) + 1)), 0, 0)
def X1_slip_j61 (x1 : Int32) (a2 : Nat) (x5 : Int32) (g : GS) : Option (((Int32 × Int32 × GS) ⊕ (Int32 × Int32 × GS)) × Nat × Nat) :=
  wk_ g a2 10 <|
  X1_slip_j70 x1 a2 (gI g a2 4) x5 g
def X1_slip_b28 (x1 : Int32) (a2 : Nat) (x3 : Int32) (x4 : Int32) (g : GS) : Option (((Int32 × Int32 × GS) ⊕ (Int32 × Int32 × GS)) × Nat × Nat) :=
  wk_ g a2 10 <|
  if 30 < (gI g a2 4) then
  some (.inr (x3, x4, g), 0, 0)
else
  cb_ (X11_run a2 g) fun r24 g23 =>
    wk_ g23 r24 10 <|
    ob_ (X11_sharp r24 g23) fun r27 =>
    if x3 = (-1) then
    X1_slip_j61 x1 a2 r27 g23
  else
    if r27 < x4 then
      X1_slip_j61 x1 a2 r27 g23
    else
      X1_slip_j70 x1 a2 x3 x4 g23
/-- RingHand.slip(I)I -/
def X1_slip (a0 : Nat) (x1 : Int32) (g : GS) : Option (((Int32 ⊕ (Nat × Nat)) × GS) × Nat × Nat) :=
  tc_ (X1_oneOf x1 1 g) (fun e4 g3 => some ((.inr e4, g3), 0, 0)) fun r2 g3 =>
  al_ g3 10 8 fun u7 g8 =>
  wk_ g8 a0 1 <|
  nn_ (gR g8 a0 1) fun b12 =>
  ca_ (X11_init u7 a0 b12 g8) fun r16 g15 =>
  wk_ g15 u7 10 <|
  oa_ (la_ (fun a => X1_slip_b28 x1 u7 a.1 a.2.1 a.2.2) fu_ ((-1), 0, pI g15 u7 4 0)) fun e32 =>
  if x1 = 0 then
  some ((.inl e32.1, e32.2.2), 0, 0)
else
  some ((.inl e32.2.1, e32.2.2), 0, 0)
def X1_lags_j67 (x1 : Int32) (a2 : Nat) (x3 : Int32) (x4 : Int32) (g : GS) : Option (((Int32 × Int32 × GS) ⊕ (Int32 × GS)) × Nat × Nat) :=
  some (.inl (x3, x4 + 1, g), 0, 0)
def X1_lags_j64 (x1 : Int32) (a2 : Nat) (x4 : Int32) (g : GS) : Option (((Int32 × Int32 × GS) ⊕ (Int32 × GS)) × Nat × Nat) :=
  X1_lags_j67 x1 a2 x4 x4 g
def X1_lags_b26 (x1 : Int32) (a2 : Nat) (x3 : Int32) (x4 : Int32) (g : GS) : Option (((Int32 × Int32 × GS) ⊕ (Int32 × GS)) × Nat × Nat) :=
  if 24 < x4 then
  some (.inr (x3, g), 0, 0)
else
  wk_ g a2 10 <|
    nn_ (gR g a2 0) fun b27 =>
    wk_ g b27 3 <|
    cb_ (X11_run a2 (pI g b27 1 x4)) fun r32 g31 =>
    wk_ g31 r32 10 <|
    ob_ (X11_isAsSeen r32 g31) fun r35 =>
    if r35 = 0 then
    X1_lags_j67 x1 a2 x3 x4 g31
  else
    if x1 = 0 then
      if x3 = (-1) then
        X1_lags_j64 x1 a2 x4 g31
      else
        X1_lags_j67 x1 a2 x3 x4 g31
    else
      X1_lags_j64 x1 a2 x4 g31
/-- RingHand.lags(I)I -/
def X1_lags (a0 : Nat) (x1 : Int32) (g : GS) : Option (((Int32 ⊕ (Nat × Nat)) × GS) × Nat × Nat) :=
  tc_ (X1_oneOf x1 1 g) (fun e4 g3 => some ((.inr e4, g3), 0, 0)) fun r2 g3 =>
  al_ g3 10 8 fun u7 g8 =>
  wk_ g8 a0 1 <|
  nn_ (gR g8 a0 1) fun b12 =>
  wk_ g8 b12 3 <|
  ca_ (X3_copy b12 g8) fun r17 g16 =>
  ca_ (X11_init u7 a0 r17 g16) fun r22 g21 =>
  oa_ (la_ (fun a => X1_lags_b26 x1 u7 a.1 a.2.1 a.2.2) fu_ ((-1), 0, g21)) fun e39 =>
  some ((.inl e39.1, e39.2), 0, 0)
def X1_depth_j66 (a0 : Nat) (x1 : Int32) (x2 : Int32) (x3 : Int32) (x4 : Int32) (g : GS) : Option (((Int32 × Int32 × GS) ⊕ (Int32 × GS)) × Nat × Nat) :=
  some (.inl (x3, x4 + 1, g), 0, 0)
def X1_depth_j63 (a0 : Nat) (x1 : Int32) (x2 : Int32) (x4 : Int32) (g : GS) : Option (((Int32 × Int32 × GS) ⊕ (Int32 × GS)) × Nat × Nat) :=
  X1_depth_j66 a0 x1 x2 x4 x4 g
def X1_depth_b22 (a0 : Nat) (x1 : Int32) (x2 : Int32) (x3 : Int32) (x4 : Int32) (g : GS) : Option (((Int32 × Int32 × GS) ⊕ (Int32 × GS)) × Nat × Nat) :=
  if 480 < x4 then
  some (.inr (x3, g), 0, 0)
else
  wk_ g a0 1 <|
    cb_ (X1_turnOf a0 x4 g) fun r19 g18 =>
    wk_ g18 a0 1 <|
    nn_ (gR g18 a0 1) fun b21 =>
    wk_ g18 b21 3 <|
    if (gI g18 b21 0) < (jabs_ (r19 - x1)) then
    X1_depth_j66 a0 x1 x2 x3 x4 g18
  else
    if x2 = 0 then
      if x3 = (-1) then
        X1_depth_j63 a0 x1 x2 x4 g18
      else
        X1_depth_j66 a0 x1 x2 x3 x4 g18
    else
      X1_depth_j63 a0 x1 x2 x4 g18
/-- RingHand.depth(II)I -/
def X1_depth (a0 : Nat) (x1 : Int32) (x2 : Int32) (g : GS) : Option (((Int32 ⊕ (Nat × Nat)) × GS) × Nat × Nat) :=
  tc_ (X1_oneOf x2 1 g) (fun e4 g3 => some ((.inr e4, g3), 0, 0)) fun r2 g3 =>
  ob_ (X1_in x1 0 999) fun r8 =>
  tc_ (X1_right r8 g3) (fun e12 g11 => some ((.inr e12, g11), 0, 0)) fun r10 g11 =>
  oa_ (la_ (fun a => X1_depth_b22 a0 x1 x2 a.1 a.2.1 a.2.2) fu_ ((-1), 12, g11)) fun e27 =>
  some ((.inl e27.1, e27.2), 0, 0)
def X1_shots_j64 (a0 : Nat) (x1 : Int32) (a2 : Nat) (x3 : Int32) (x4 : Int32) (x5 : Int32) (g : GS) : Option (((Int32 × Int32 × Int32 × GS) ⊕ (Int32 × GS)) × Nat × Nat) :=
  some (.inl (x3, x4, x5 + 1, g), 0, 0)
def X1_shots_j53 (a0 : Nat) (x1 : Int32) (a2 : Nat) (x3 : Int32) (x5 : Int32) (t0 : Int32) (g : GS) : Option (((Int32 × Int32 × Int32 × GS) ⊕ (Int32 × GS)) × Nat × Nat) :=
  if t0 < x1 then
  X1_shots_j64 a0 x1 a2 x3 t0 x5 g
else
  X1_shots_j64 a0 x1 a2 (x3 + 1) t0 x5 g
def X1_shots_b24 (a0 : Nat) (x1 : Int32) (a2 : Nat) (x3 : Int32) (x4 : Int32) (x5 : Int32) (g : GS) : Option (((Int32 × Int32 × Int32 × GS) ⊕ (Int32 × GS)) × Nat × Nat) :=
  wk_ g a0 1 <|
  nn_ (gR g a0 0) fun b16 =>
  wk_ g b16 2 <|
  if (gI g b16 6) < x5 then
  some (.inr (x3, g), 0, 0)
else
  wk_ g a2 10 <|
    ob_ (X11_isSharp_2 a2 x5 g) fun r22 =>
    if r22 = 0 then
    X1_shots_j53 a0 x1 a2 x3 x5 0 g
  else
    X1_shots_j53 a0 x1 a2 x3 x5 (x4 + 1) g
/-- RingHand.shots(I)I -/
def X1_shots (a0 : Nat) (x1 : Int32) (g : GS) : Option (((Int32 ⊕ (Nat × Nat)) × GS) × Nat × Nat) :=
  ob_ (X1_in x1 1 601) fun r2 =>
  tc_ (X1_right r2 g) (fun e6 g5 => some ((.inr e6, g5), 0, 0)) fun r4 g5 =>
  wk_ g5 a0 1 <|
  ca_ (X1_take a0 g5) fun r12 g11 =>
  oa_ (la_ (fun a => X1_shots_b24 a0 x1 r12 a.1 a.2.1 a.2.2.1 a.2.2.2) fu_ (0, 0, 0, g11)) fun e25 =>
  some ((.inl e25.1, e25.2), 0, 0)
def X1_quickest_j103 (a0 : Nat) (x1 : Int32) (a2 : Nat) (x3 : Int32) (x4 : Int32) (x5 : Int32) (g : GS) : Option (((Int32 × Int32 × Int32 × GS) ⊕ (Int32 × Int32 × GS)) × Nat × Nat) :=
  some (.inl (x3, x4, x5 + 1, g), 0, 0)
def X1_quickest_b26 (a0 : Nat) (x1 : Int32) (a2 : Nat) (x3 : Int32) (x4 : Int32) (x5 : Int32) (g : GS) : Option (((Int32 × Int32 × Int32 × GS) ⊕ (Int32 × Int32 × GS)) × Nat × Nat) :=
  wk_ g a0 1 <|
  nn_ (gR g a0 0) fun b20 =>
  wk_ g b20 2 <|
  if (gI g b20 6) < x5 then
  some (.inr (x3, x4, g), 0, 0)
else
  nn_ (gR g a0 0) fun b24 =>
    wk_ g b24 2 <|
    ob_ (X2_isHis b24 x5 g) fun r28 =>
    wk_ g a2 10 <|
    ob_ (X11_inches a2 x5 r28 g) fun r31 =>
    cb_ (X1_turnOf a0 r31 g) fun r34 g33 =>
    wk_ g33 a0 1 <|
    nn_ (gR g33 a0 0) fun b36 =>
    wk_ g33 b36 2 <|
    ob_ (X2_isHis b36 (x5 - 1) g33) fun r40 =>
    wk_ g33 a2 10 <|
    ob_ (X11_inches a2 (x5 - 1) r40 g33) fun r43 =>
    cb_ (X1_turnOf a0 r43 g33) fun r46 g45 =>
    if x4 < (jabs_ (r34 - r46)) then
    X1_quickest_j103 a0 x1 a2 x5 (jabs_ (r34 - r46)) x5 g45
  else
    X1_quickest_j103 a0 x1 a2 x3 x4 x5 g45
/-- RingHand.quickest(I)I -/
def X1_quickest (a0 : Nat) (x1 : Int32) (g : GS) : Option (((Int32 ⊕ (Nat × Nat)) × GS) × Nat × Nat) :=
  tc_ (X1_oneOf x1 1 g) (fun e4 g3 => some ((.inr e4, g3), 0, 0)) fun r2 g3 =>
  al_ g3 10 8 fun u7 g8 =>
  wk_ g8 a0 1 <|
  nn_ (gR g8 a0 1) fun b12 =>
  ca_ (X11_init u7 a0 b12 g8) fun r16 g15 =>
  oa_ (la_ (fun a => X1_quickest_b26 a0 x1 u7 a.1 a.2.1 a.2.2.1 a.2.2.2) fu_ (0, (-1), 1, g15)) fun e48 =>
  if x1 = 0 then
  some ((.inl (jmax_ 0 e48.2.1), e48.2.2), 0, 0)
else
  some ((.inl e48.1, e48.2.2), 0, 0)
def X1_takes_j137 (a0 : Nat) (x2 : Int32) (x3 : Int32) (x4 : Int32) (x5 : Int32) (a6 : Nat) (x7 : Int32) (x8 : Int32) (x10 : Int32) (t0 : Int32) (g : GS) : Option (((Int32 × Int32 × Int32 × Int32 × GS) ⊕ (Int32 × Int32 × Int32 × GS)) × Nat × Nat) :=
  some (.inl (x7, x8, t0, x10 + 1, g), 0, 0)
def X1_takes_j113 (a0 : Nat) (x2 : Int32) (x3 : Int32) (x4 : Int32) (x5 : Int32) (a6 : Nat) (x7 : Int32) (x8 : Int32) (x9 : Int32) (x10 : Int32) (x11 : Int32) (g : GS) : Option (((Int32 × Int32 × Int32 × Int32 × GS) ⊕ (Int32 × Int32 × Int32 × GS)) × Nat × Nat) :=
  if x10 = 0 then
  X1_takes_j137 a0 x2 x3 x4 x5 a6 x7 (x8 + x11) x10 x11 g
else
  X1_takes_j137 a0 x2 x3 x4 x5 a6 x7 (x8 + x11) x10 (jmin_ x9 x11) g
def X1_takes_b77 (a0 : Nat) (x2 : Int32) (x3 : Int32) (x4 : Int32) (x5 : Int32) (a6 : Nat) (x7 : Int32) (x8 : Int32) (x9 : Int32) (x10 : Int32) (g : GS) : Option (((Int32 × Int32 × Int32 × Int32 × GS) ⊕ (Int32 × Int32 × Int32 × GS)) × Nat × Nat) :=
  if x2 ≤ x10 then
  some (.inr (x7, x8, x9, g), 0, 0)
else
  wk_ g a0 1 <|
    cb_ (X1_draw a0 x3 g) fun r33 g32 =>
    wk_ g32 a6 10 <|
    cb_ (X11_run a6 (pI g32 a6 4 r33)) fun r37 g36 =>
    wk_ g36 r37 10 <|
    ob_ (X11_sharp r37 g36) fun r40 =>
    if r40 < x4 then
    X1_takes_j113 a0 x2 x3 x4 x5 a6 x7 x8 x9 x10 r40 g36
  else
    X1_takes_j113 a0 x2 x3 x4 x5 a6 (x7 + 1) x8 x9 x10 r40 g36
def X1_takes_j43 (a0 : Nat) (x1 : Int32) (x2 : Int32) (x3 : Int32) (x4 : Int32) (x5 : Int32) (t0 : Int32) (g : GS) : Option (((Int32 ⊕ (Nat × Nat)) × GS) × Nat × Nat) :=
  tc_ (X1_right t0 g) (fun e13 g12 => some ((.inr e13, g12), 0, 0)) fun r11 g12 =>
  wk_ g12 a0 1 <|
  al_ (pI g12 a0 15 x1) 10 8 fun u17 g18 =>
  wk_ g18 a0 1 <|
  nn_ (gR g18 a0 1) fun b22 =>
  ca_ (X11_init u17 a0 b22 g18) fun r26 g25 =>
  oa_ (la_ (fun a => X1_takes_b77 a0 x2 x3 x4 x5 u17 a.1 a.2.1 a.2.2.1 a.2.2.2.1 a.2.2.2.2) fu_ (0, 0, 0, 0, g25)) fun e43 =>
  if x5 = 0 then
  some ((.inl e43.1, e43.2.2.2), 0, 0)
else
  if x5 = 1 then
    some ((.inl e43.2.1, e43.2.2.2), 0, 0)
  else
    some ((.inl e43.2.2.1, e43.2.2.2), 0, 0)
def X1_takes_j42 (a0 : Nat) (x1 : Int32) (x2 : Int32) (x3 : Int32) (x4 : Int32) (x5 : Int32) (g : GS) : Option (((Int32 ⊕ (Nat × Nat)) × GS) × Nat × Nat) :=
  X1_takes_j43 a0 x1 x2 x3 x4 x5 0 g
/-- RingHand.takes(IIIII)I -/
def X1_takes (a0 : Nat) (x1 : Int32) (x2 : Int32) (x3 : Int32) (x4 : Int32) (x5 : Int32) (g : GS) : Option (((Int32 ⊕ (Nat × Nat)) × GS) × Nat × Nat) :=
  tc_ (X1_oneOf x5 2 g) (fun e4 g3 => some ((.inr e4, g3), 0, 0)) fun r2 g3 =>
  ob_ (X1_in x2 0 40) fun r8 =>
  if r8 = 0 then
  X1_takes_j42 a0 x1 x2 x3 x4 x5 g3
else
  ob_ (X1_in x3 1 30) fun r49 =>
    if r49 = 0 then
    X1_takes_j42 a0 x1 x2 x3 x4 x5 g3
  else
    ob_ (X1_in x4 0 601) fun r52 =>
      if r52 = 0 then
      X1_takes_j42 a0 x1 x2 x3 x4 x5 g3
    else
      X1_takes_j43 a0 x1 x2 x3 x4 x5 1 g3
def X1_see_j47 (a0 : Nat) (t0 : Nat) (t1 : Nat) (t2 : Nat) (t3 : Int32) (t4 : Int32) (g : GS) : Option (((Int32 ⊕ (Nat × Nat)) × GS) × Nat × Nat) :=
  wk_ g t2 100 <|
  in_ t3 (gN g t2) <|
  wk_ (pI g t2 t3.toNatClampNeg t4) t0 12 <|
  ca_ (J2_add t0 t1 (pI g t2 t3.toNatClampNeg t4)) fun r29 g28 =>
  wk_ g28 a0 1 <|
  nn_ (gR g28 a0 8) fun b33 =>
  wk_ g28 b33 12 <|
  ob_ (J2_size b33 g28) fun r37 =>
  some ((.inl r37, g28), 0, 0)
/-- RingHand.see(IZ)I -/
def X1_see (a0 : Nat) (x1 : Int32) (x2 : Int32) (g : GS) : Option (((Int32 ⊕ (Nat × Nat)) × GS) × Nat × Nat) :=
  wk_ g a0 1 <|
  tc_ (X1_aTenth a0 x1 g) (fun e5 g4 => some ((.inr e5, g4), 0, 0)) fun r3 g4 =>
  wk_ g4 a0 1 <|
  nn_ (gR g4 a0 8) fun b9 =>
  wk_ g4 b9 12 <|
  ob_ (J2_size b9 g4) fun r13 =>
  if r13 = 8 then
  cb_ (X1_refuse a0 2 g4) fun r40 g39 =>
    some ((.inl r40, g39), 0, 0)
else
  nn_ (gR g4 a0 8) fun b15 =>
    na_ 2 <|
    al_ g4 100 ((2 : Int32).toNatClampNeg) fun u17 g18 =>
    in_ 0 (gN g18 u17) <|
    if x2 = 0 then
    X1_see_j47 a0 b15 u17 u17 1 0 (pI g18 u17 (0 : Int32).toNatClampNeg x1)
  else
    X1_see_j47 a0 b15 u17 u17 1 1 (pI g18 u17 (0 : Int32).toNatClampNeg x1)
def X1_fits_j103 (a0 : Nat) (x1 : Int32) (a2 : Nat) (x3 : Int32) (x4 : Int32) (x5 : Int32) (g : GS) : Option (((Int32 × Int32 × GS) ⊕ (Int32 × Int32 × GS)) × Nat × Nat) :=
  wk_ g a2 10 <|
  some (.inl (x3, x4, pI g a2 4 ((gI g a2 4) + 1)), 0, 0)
def X1_fits_j100 (a0 : Nat) (x1 : Int32) (a2 : Nat) (x3 : Int32) (x4 : Int32) (x5 : Int32) (g : GS) : Option (((Int32 × Int32 × GS) ⊕ (Int32 × Int32 × GS)) × Nat × Nat) :=
  X1_fits_j103 a0 x1 a2 (x3 + 1) x4 x5 g
def X1_fits_b51 (a0 : Nat) (x1 : Int32) (a2 : Nat) (x5 : Int32) (x3 : Int32) (x4 : Int32) (g : GS) : Option (((Int32 × Int32 × GS) ⊕ (Int32 × Int32 × GS)) × Nat × Nat) :=
  wk_ g a2 10 <|
  if 20 < (gI g a2 4) then
  some (.inr (x3, x4, g), 0, 0)
else
  nn_ (gR g a2 0) fun b38 =>
    wk_ g b38 3 <|
    cb_ (X11_run a2 (pI g b38 4 x5)) fun r43 g42 =>
    wk_ g42 r43 10 <|
    ob_ (X11_isAsSeen r43 g42) fun r46 =>
    if r46 = 0 then
    X1_fits_j103 a0 x1 a2 x3 x4 x5 g42
  else
    if x3 = 0 then
      wk_ g42 a2 10 <|
        X1_fits_j100 a0 x1 a2 x3 ((100 * (x5 + 1)) + (gI g42 a2 4)) x5 g42
    else
      X1_fits_j100 a0 x1 a2 x3 x4 x5 g42
def X1_fits_b29 (a0 : Nat) (x1 : Int32) (a2 : Nat) (x3 : Int32) (x4 : Int32) (x5 : Int32) (g : GS) : Option (((Int32 × Int32 × Int32 × GS) ⊕ (Int32 × Int32 × GS)) × Nat × Nat) :=
  wk_ g a0 1 <|
  nn_ (gR g a0 0) fun b26 =>
  wk_ g b26 2 <|
  nn_ (gR g b26 2) fun b29 =>
  wk_ g b29 12 <|
  ob_ (J2_size b29 g) fun r33 =>
  if r33 ≤ x5 then
  some (.inr (x3, x4, g), 0, 0)
else
  wk_ g a2 10 <|
    oa_ (la_ (fun a => X1_fits_b51 a0 x1 a2 x5 a.1 a.2.1 a.2.2) fu_ (x3, x4, pI g a2 4 0)) fun e51 =>
    some (.inl (e51.1, e51.2.1, x5 + 1, e51.2.2), 0, 0)
/-- RingHand.fits(I)I -/
def X1_fits (a0 : Nat) (x1 : Int32) (g : GS) : Option (((Int32 ⊕ (Nat × Nat)) × GS) × Nat × Nat) :=
  tc_ (X1_oneOf x1 1 g) (fun e4 g3 => some ((.inr e4, g3), 0, 0)) fun r2 g3 =>
  al_ g3 10 8 fun u7 g8 =>
  wk_ g8 a0 1 <|
  nn_ (gR g8 a0 1) fun b12 =>
  wk_ g8 b12 3 <|
  ca_ (X3_copy b12 g8) fun r17 g16 =>
  ca_ (X11_init u7 a0 r17 g16) fun r22 g21 =>
  oa_ (la_ (fun a => X1_fits_b29 a0 x1 u7 a.1 a.2.1 a.2.2.1 a.2.2.2) fu_ (0, (-1), (-1), g21)) fun e54 =>
  if x1 = 0 then
  some ((.inl e54.1, e54.2.2), 0, 0)
else
  some ((.inl e54.2.1, e54.2.2), 0, 0)
def X1_next_j48 (a0 : Nat) (x1 : Int32) (x2 : Int32) (x3 : Int32) (x4 : Int32) (g : GS) : Option (((Int32 × Int32 × GS) ⊕ (Int32 × GS)) × Nat × Nat) :=
  some (.inl (x3, x4 + 1, g), 0, 0)
def X1_next_b10 (a0 : Nat) (x1 : Int32) (x2 : Int32) (x3 : Int32) (x4 : Int32) (g : GS) : Option (((Int32 × Int32 × GS) ⊕ (Int32 × GS)) × Nat × Nat) :=
  wk_ g a0 1 <|
  nn_ (gR g a0 9) fun b8 =>
  wk_ g b8 12 <|
  ob_ (J2_size b8 g) fun r12 =>
  if r12 ≤ x4 then
  some (.inr (x3, g), 0, 0)
else
  nn_ (gR g a0 9) fun b14 =>
    wk_ g b14 12 <|
    ob_ (J2_get b14 x4 g) fun r18 =>
    rk_ g r18 14 <|
    ob_ (J19_intValue r18 g) fun r21 =>
    if x1 < r21 then
    X1_next_j48 a0 x1 x2 x3 x4 g
  else
    X1_next_j48 a0 x1 x2 (x3 + 1) x4 g
/-- RingHand.next(II)I -/
def X1_next (a0 : Nat) (x1 : Int32) (x2 : Int32) (g : GS) : Option (((Int32 ⊕ (Nat × Nat)) × GS) × Nat × Nat) :=
  tc_ (X1_oneOf x2 1 g) (fun e4 g3 => some ((.inr e4, g3), 0, 0)) fun r2 g3 =>
  oa_ (la_ (fun a => X1_next_b10 a0 x1 x2 a.1 a.2.1 a.2.2) fu_ (0, 0, g3)) fun e23 =>
  wk_ e23.2 a0 1 <|
  nn_ (gR e23.2 a0 9) fun b27 =>
  wk_ e23.2 b27 12 <|
  ob_ (J2_size b27 e23.2) fun r31 =>
  ob_ (X1_part e23.1 r31 x2) fun r33 =>
  some ((.inl r33, e23.2), 0, 0)
def X1_middle_b17 (a0 : Nat) (x1 : Int32) (x2 : Int32) (x3 : Int32) (x4 : Int32) (x5 : Int32) (g : GS) : Option (((Int32 × Int32 × Int32 × Int32 × GS) ⊕ (Int32 × Int32 × Int32 × GS)) × Nat × Nat) :=
  wk_ g a0 1 <|
  nn_ (gR g a0 9) fun b8 =>
  wk_ g b8 12 <|
  ob_ (J2_size b8 g) fun r12 =>
  if r12 ≤ x5 then
  some (.inr (x2, x3, x4, g), 0, 0)
else
  nn_ (gR g a0 9) fun b14 =>
    wk_ g b14 12 <|
    ob_ (J2_get b14 x5 g) fun r18 =>
    rk_ g r18 14 <|
    ob_ (J19_intValue r18 g) fun r21 =>
    nn_ (gR g a0 9) fun b22 =>
    wk_ g b22 12 <|
    ob_ (J2_get b22 x5 g) fun r26 =>
    rk_ g r26 14 <|
    ob_ (J19_intValue r26 g) fun r29 =>
    nn_ (gR g a0 9) fun b30 =>
    wk_ g b30 12 <|
    ob_ (J2_get b30 x5 g) fun r34 =>
    rk_ g r34 14 <|
    ob_ (J19_intValue r34 g) fun r37 =>
    some (.inl (x2 + r21, jmax_ x3 r29, jmin_ x4 r37, x5 + 1, g), 0, 0)
/-- RingHand.middle(I)I -/
def X1_middle (a0 : Nat) (x1 : Int32) (g : GS) : Option (((Int32 ⊕ (Nat × Nat)) × GS) × Nat × Nat) :=
  tc_ (X1_oneOf x1 2 g) (fun e4 g3 => some ((.inr e4, g3), 0, 0)) fun r2 g3 =>
  oa_ (la_ (fun a => X1_middle_b17 a0 x1 a.1 a.2.1 a.2.2.1 a.2.2.2.1 a.2.2.2.2) fu_ (0, 0, 480, 0, g3)) fun e38 =>
  if 2 ≤ x1 then
  wk_ e38.2.2.2 a0 1 <|
    nn_ (gR e38.2.2.2 a0 9) fun b43 =>
    wk_ e38.2.2.2 b43 12 <|
    ob_ (J2_isEmpty b43 e38.2.2.2) fun r47 =>
    if r47 = 0 then
    some ((.inl (e38.2.1 - e38.2.2.1), e38.2.2.2), 0, 0)
  else
    some ((.inl 0, e38.2.2.2), 0, 0)
else
  wk_ e38.2.2.2 a0 1 <|
    nn_ (gR e38.2.2.2 a0 9) fun b50 =>
    wk_ e38.2.2.2 b50 12 <|
    ob_ (J2_size b50 e38.2.2.2) fun r54 =>
    ob_ (X1_part e38.1 r54 x1) fun r56 =>
    some ((.inl r56, e38.2.2.2), 0, 0)
