section
/-! PURE WORDS (own work) -/
set_option maxRecDepth 100000
/-- the reference object's state: int fields, the long field, int arrays by the field that holds them -/
def MS : Type := (Nat → Int32) × Int64 × (Nat → Nat → Int32)
def m_I (σ : MS) (k : Nat) : Int32 := σ.1 k
def m_L (σ : MS) : Int64 := σ.2.1
def m_A (σ : MS) (j i : Nat) : Int32 := σ.2.2 j i
def s_I (σ : MS) (k : Nat) (v : Int32) : MS := (fun i => if i = k then v else σ.1 i, σ.2.1, σ.2.2)
def s_L (σ : MS) (v : Int64) : MS := (σ.1, v, σ.2.2)
def s_A (σ : MS) (j i : Nat) (v : Int32) : MS := (σ.1, σ.2.1, fun a => if a = j then upd (σ.2.2 j) i v else σ.2.2 a)
def fu_ : Nat := 6000
def zb_ (v : Int32) : Int32 := v &&& 1
def ob_ {α β : Type} (x : Option α) (K : α → Option β) : Option β := match x with
  | some a => K a
  | none => none
def cb_ {α β S : Type} (x : Option (α × S)) (K : α → S → Option β) : Option β := match x with
  | some q => K q.1 q.2
  | none => none
def in_ {β : Type} (i : Int32) (n : Nat) (K : Option β) : Option β := if i < 0 ∨ n ≤ i.toNatClampNeg then none else K
def dv_ {β : Type} (y : Int32) (K : Option β) : Option β := if y = 0 then none else K
def dl_ {β : Type} (y : Int64) (K : Option β) : Option β := if y = 0 then none else K
def gd_ {β : Type} (b : Bool) (K : Option β) : Option β := match b with
  | true => K
  | false => none
def lp_ {α ε : Type} (body : α → Option (α ⊕ ε)) : Nat → α → Option ε
  | 0, _ => none
  | n + 1, a => match body a with
    | none => none
    | some (.inl a') => lp_ body n a'
    | some (.inr e) => some e
def m_isA (k : Nat) : Bool := [8, 9, 10, 11, 12, 13, 14, 18, 43, 44, 45, 46, 47, 48, 49, 50, 51, 52, 53, 54, 55, 57, 58, 61, 62, 63, 70, 71, 72, 75, 77, 82, 83, 84, 85].contains k
def m_len (k : Nat) : Nat := match k with
  | 8 => 12 | 9 => 12 | 10 => 6 | 11 => 6 | 12 => 4 | 13 => 4200 | 14 => 700 | 18 => 3
  | 43 => 12 | 44 => 12 | 45 => 6 | 46 => 6 | 47 => 6 | 48 => 6 | 49 => 4 | 50 => 4200 | 51 => 950 | 52 => 9
  | 53 => 12 | 54 => 12 | 55 => 80 | 57 => 8 | 58 => 950 | 61 => 601 | 62 => 601 | 63 => 601
  | 70 => 3 | 71 => 13 | 72 => 3 | 75 => 16 | 77 => 16 | 82 => 12 | 83 => 80 | 84 => 16 | 85 => 16
  | _ => 0
def m_ok (k : Nat) : Bool := m_isA k && !(k == 52)
def GS : Type := (Nat → Nat) × (Nat → Nat) × (Nat → Nat → Int32) × (Nat → Nat → Nat) × Nat × (Nat → Nat)
def gK (g : GS) : Nat → Nat := g.1
def gN (g : GS) : Nat → Nat := g.2.1
def gI (g : GS) : Nat → Nat → Int32 := g.2.2.1
def gR (g : GS) : Nat → Nat → Nat := g.2.2.2.1
def gz (g : GS) : Nat := g.2.2.2.2.1
def gS (g : GS) : Nat → Nat := g.2.2.2.2.2
def u2_ {α : Type} (f : Nat → Nat → α) (a k : Nat) (v : α) : Nat → Nat → α := fun b i => if b = a ∧ i = k then v else f b i
def pI (g : GS) (a k : Nat) (v : Int32) : GS := (gK g, gN g, u2_ (gI g) a k v, gR g, gz g, gS g)
def pR (g : GS) (a k v : Nat) : GS := (gK g, gN g, gI g, u2_ (gR g) a k v, gz g, gS g)
/-- a new cell of kind k, of n places, all nought -/
def nw_ (g : GS) (k n : Nat) : GS := (fun b => if b = gz g then k else gK g b, fun b => if b = gz g then n else gN g b, fun b i => if b = gz g then 0 else gI g b i, fun b i => if b = gz g then 0 else gR g b i, gz g + 1, gS g)
/-- a copy of the cell a -/
def cl_ (g : GS) (k a : Nat) : GS := (fun b => if b = gz g then k else gK g b, fun b => if b = gz g then gN g a else gN g b, fun b i => if b = gz g then gI g a i else gI g b i, fun b i => if b = gz g then gR g a i else gR g b i, gz g + 1, gS g)
/-- n cells that nobody follows -/
def sk_ (g : GS) (n : Nat) : GS := (gK g, gN g, gI g, gR g, gz g + n, gS g)
def cI_ (g : GS) (a sp b dp n : Nat) : GS := (gK g, gN g, fun d i => if d = b then va_cpy (gI g a) (gI g b) sp dp n i else gI g d i, gR g, gz g, gS g)
def cR_ (g : GS) (a sp b dp n : Nat) : GS := (gK g, gN g, gI g, fun d i => if d = b then va_cpy (gR g a) (gR g b) sp dp n i else gR g d i, gz g, gS g)
def wk_ {β : Type} (g : GS) (a k : Nat) (K : Option β) : Option β := if gK g a = k then K else none
def rk_ {β : Type} (g : GS) (a k : Nat) (K : Option β) : Option β := if gK g a % 1000 = k then K else none
def nn_ {β : Type} (x : Nat) (K : Nat → Option β) : Option β := match x with
  | 0 => none
  | b + 1 => K b
def g_sto (k : Nat) : Bool := [3, 6, 7, 8, 9, 14, 100].contains k
def eo_ (g : GS) (x : Nat) : Bool := x == 0 || g_sto (gK g (x - 1) % 1000)
def g_isF (k : Nat) : Bool := k == 6 || k == 7 || k == 8 || k == 9
def Rs (α : Type) : Type := α × GS × Nat × Nat
def bp_ {α : Type} (c n : Nat) (x : Option (α × Nat × Nat)) : Option (α × Nat × Nat) := match x with
  | some q => some (q.1, q.2.1 + c, q.2.2 + n)
  | none => none
/-- a call that allocates -/
def ca_ {α β : Type} (x : Option ((α × GS) × Nat × Nat)) (K : α → GS → Option (β × Nat × Nat)) : Option (β × Nat × Nat) := match x with
  | some q => bp_ q.2.1 q.2.2 (K q.1.1 q.1.2)
  | none => none
/-- a new cell of kind k with n places -/
def al_ {β : Type} (g : GS) (k n : Nat) (K : Nat → GS → Option (β × Nat × Nat)) : Option (β × Nat × Nat) := bp_ 1 n (K (gz g) (nw_ g k n))
/-- an allocating loop -/
def la_ {α ε : Type} (body : α → Option ((α ⊕ ε) × Nat × Nat)) : Nat → α → Option (ε × Nat × Nat)
  | 0, _ => none
  | n + 1, a => match body a with
    | none => none
    | some (.inl a', c, k) => bp_ c k (la_ body n a')
    | some (.inr e, c, k) => some (e, c, k)
/-- what follows an allocating loop -/
def oa_ {α β : Type} (x : Option (α × Nat × Nat)) (K : α → Option (β × Nat × Nat)) : Option (β × Nat × Nat) := match x with
  | some q => bp_ q.2.1 q.2.2 (K q.1)
  | none => none
def zc_ (v : Int32) : Int32 := v.toUInt32.toUInt16.toUInt32.toInt32
def zy_ (v : Int32) : Int32 := v.toInt8.toInt32
def acB_ (g : GS) (a : Nat) (sp : Int32) (b : Nat) (dp n : Int32) : Bool := decide (¬ sp < 0 ∧ ¬ dp < 0 ∧ ¬ n < 0 ∧ sp.toNatClampNeg + n.toNatClampNeg ≤ gN g a ∧ dp.toNatClampNeg + n.toNatClampNeg ≤ gN g b) && (List.range n.toNatClampNeg).all (fun i => fits .byte (.int (gI g a (sp.toNatClampNeg + i))))
def acR_ (g : GS) (a : Nat) (sp : Int32) (b : Nat) (dp n : Int32) : Bool := decide (¬ sp < 0 ∧ ¬ dp < 0 ∧ ¬ n < 0 ∧ sp.toNatClampNeg + n.toNatClampNeg ≤ gN g a ∧ dp.toNatClampNeg + n.toNatClampNeg ≤ gN g b) && (List.range n.toNatClampNeg).all (fun i => eo_ g (gR g a (sp.toNatClampNeg + i)))
/-- the size of a new array: not below nought, not too large -/
def na_ {β : Type} (n : Int32) (K : Option β) : Option β := if n < 0 ∨ 134217728 < n.toNatClampNeg then none else K
def jmax_ (x y : Int32) : Int32 := if x < y then y else x
def jmin_ (x y : Int32) : Int32 := if y < x then y else x
def jabs_ (x : Int32) : Int32 := if 0 ≤ x then x else 0 - x
def nm_ {α β : Type} (x : α) (K : α → Option β) : Option β := K x
/-- a call that may throw -/
def tc_ {α β : Type} (x : Option (((α ⊕ (Nat × Nat)) × GS) × Nat × Nat)) (T : Nat × Nat → GS → Option (β × Nat × Nat)) (K : α → GS → Option (β × Nat × Nat)) : Option (β × Nat × Nat) := match x with
  | some ((.inl a, g), c, k) => bp_ c k (K a g)
  | some ((.inr e, g), c, k) => bp_ c k (T e g)
  | none => none
end
section
/-! THE MODEL's METHODS, PURE: printed out of the bytecode by wip/D-98610w/gen/model.py -/
set_option maxRecDepth 100000

/-- RingHandModel.thrown()I -/
def X4_thrown (σ : MS) : Option (Int32) :=
  some (m_I σ 0)
def X4_lays_b3 (x1 : Int32) (x2 : Int32) (σ : MS) : Option ((Int32 × MS) ⊕ (MS)) :=
  if x2 < 0 then
  some (.inr σ)
else
  in_ (m_I σ 15) 700 <|
    some (.inl (x2 + (-8), s_I (s_A σ 14 ((m_I σ 15).toNatClampNeg) ((x1 >>> (x2 &&& 31)) &&& 255)) 15 ((m_I σ 15) + 1)))
/-- RingHandModel.lays(I)V -/
def X4_lays (x1 : Int32) (σ : MS) : Option (MS) :=
  ob_ (lp_ (fun a => X4_lays_b3 x1 a.1 a.2) fu_ (24, σ)) fun e3 =>
  some e3
/-- RingHandModel.feed(IIIII)I -/
def X4_feed (x1 : Int32) (x2 : Int32) (x3 : Int32) (x4 : Int32) (x5 : Int32) (σ : MS) : Option (Int32 × MS) :=
  if ((m_I σ 15) + 20) ≤ 700 then
  ob_ (X4_lays x1 (s_I σ 0 0)) fun σ3 =>
    ob_ (X4_lays x2 σ3) fun σ5 =>
    ob_ (X4_lays x3 σ5) fun σ7 =>
    ob_ (X4_lays x4 σ7) fun σ9 =>
    ob_ (X4_lays x5 σ9) fun σ11 =>
    some (m_I σ11 15, σ11)
else
  some ((-1), s_I σ 0 0)
def X4_right_j16 (σ : MS) : Option (Int32 × MS) :=
  if (m_I σ 0) = 0 then
  some (1, σ)
else
  some (0, σ)
/-- RingHandModel.right(ZI)Z -/
def X4_right (x1 : Int32) (x2 : Int32) (σ : MS) : Option (Int32 × MS) :=
  if (m_I σ 0) = 0 then
  if x1 = 0 then
    X4_right_j16 (s_I σ 0 x2)
  else
    X4_right_j16 σ
else
  X4_right_j16 σ
/-- RingHandModel.forgetsText()V -/
def X4_forgetsText (σ : MS) : Option (MS) :=
  in_ 0 6 <|
  in_ 1 6 <|
  in_ 2 6 <|
  in_ 3 6 <|
  in_ 4 6 <|
  some (s_A (s_A (s_A (s_A (s_A (s_I (s_I (s_I (s_I (s_I (s_I (s_I (s_I (s_I σ 28 0) 29 0) 30 0) 31 0) 32 (-1)) 33 (-1)) 34 0) 37 0) 40 0) 48 ((0 : Int32).toNatClampNeg) 3) 48 ((1 : Int32).toNatClampNeg) 2) 48 ((2 : Int32).toNatClampNeg) 20) 48 ((3 : Int32).toNatClampNeg) 0) 48 ((4 : Int32).toNatClampNeg) 0)
/-- RingHandModel.byteAt(I)I -/
def X4_byteAt (x1 : Int32) (σ : MS) : Option (Int32) :=
  if (m_I σ 19) ≤ x1 then
  some 0
else
  in_ x1 700 <|
    some (m_A σ 14 x1.toNatClampNeg)
/-- RingHandModel.isLetter(I)Z -/
def X4_isLetter (x0 : Int32) : Option (Int32) :=
  if x0 < 97 then
  some 0
else
  if 122 < x0 then
    some 0
  else
    some 1
/-- RingHandModel.isDigit(I)Z -/
def X4_isDigit (x0 : Int32) : Option (Int32) :=
  if x0 < 48 then
  some 0
else
  if 57 < x0 then
    some 0
  else
    some 1
def X4_goes_j37 (σ : MS) : Option ((MS) ⊕ (MS)) :=
  some (.inl (s_I σ 20 ((m_I σ 20) + 1)))
def X4_goes_b0 (σ : MS) : Option ((MS) ⊕ (MS)) :=
  if (m_I σ 19) ≤ (m_I σ 20) then
  some (.inr σ)
else
  ob_ (X4_byteAt (m_I σ 20) σ) fun r3 =>
    if r3 = 32 then
    X4_goes_j37 σ
  else
    ob_ (X4_byteAt (m_I σ 20) σ) fun r6 =>
      if r6 = 10 then
      X4_goes_j37 σ
    else
      some (.inr σ)
def X4_goes_j331 (σ : MS) : Option (MS) :=
  some (s_I σ 23 ((m_I σ 20) - (m_I σ 22)))
def X4_goes_j328 (t1 : Int32) (σ : MS) : Option (MS) :=
  X4_goes_j331 (s_I σ 21 t1)
def X4_goes_j323 (σ : MS) : Option (MS) :=
  X4_goes_j328 3 σ
def X4_goes_j237 (σ : MS) : Option ((MS) ⊕ (MS)) :=
  some (.inl (s_I σ 20 ((m_I σ 20) + 1)))
def X4_goes_b187 (σ : MS) : Option ((MS) ⊕ (MS)) :=
  ob_ (X4_byteAt (m_I σ 20) σ) fun r28 =>
  ob_ (X4_isDigit r28) fun r29 =>
  if r29 = 0 then
  some (.inr σ)
else
  if 4 ≤ ((m_I σ 20) - (m_I σ 22)) then
    X4_goes_j237 σ
  else
    ob_ (X4_byteAt (m_I σ 20) σ) fun r34 =>
      X4_goes_j237 (s_I σ 24 (((10 * (m_I σ 24)) + r34) - 48))
def X4_goes_j159 (σ : MS) : Option ((MS) ⊕ (MS)) :=
  some (.inl (s_I σ 20 ((m_I σ 20) + 1)))
def X4_goes_b108 (σ : MS) : Option ((MS) ⊕ (MS)) :=
  ob_ (X4_byteAt (m_I σ 20) σ) fun r37 =>
  ob_ (X4_isLetter r37) fun r38 =>
  if r38 = 0 then
  some (.inr σ)
else
  if 6 ≤ ((m_I σ 20) - (m_I σ 22)) then
    X4_goes_j159 σ
  else
    ob_ (X4_byteAt (m_I σ 20) σ) fun r43 =>
      X4_goes_j159 (s_L σ (((m_L σ) <<< ((5 : Int32).toInt64 &&& 63)) ||| ((r43 - 96).toInt64)))
/-- RingHandModel.goes()V -/
def X4_goes (σ : MS) : Option (MS) :=
  ob_ (lp_ (fun a => X4_goes_b0 a) fu_ σ) fun e8 =>
  ob_ (X4_byteAt (m_I e8 20) (s_I (s_L (s_I e8 22 (m_I e8 20)) 0) 24 0)) fun r10 =>
  if (m_I e8 20) < (m_I e8 19) then
  ob_ (X4_isLetter r10) fun r12 =>
    if r12 = 0 then
    ob_ (X4_isDigit r10) fun r15 =>
      if r15 = 0 then
      if r10 = 59 then
        X4_goes_j323 (s_I (s_I (s_I (s_L (s_I e8 22 (m_I e8 20)) 0) 24 0) 25 r10) 20 ((m_I e8 20) + 1))
      else
        if r10 = 40 then
          X4_goes_j323 (s_I (s_I (s_I (s_L (s_I e8 22 (m_I e8 20)) 0) 24 0) 25 r10) 20 ((m_I e8 20) + 1))
        else
          if r10 = 41 then
            X4_goes_j323 (s_I (s_I (s_I (s_L (s_I e8 22 (m_I e8 20)) 0) 24 0) 25 r10) 20 ((m_I e8 20) + 1))
          else
            if r10 = 43 then
              X4_goes_j323 (s_I (s_I (s_I (s_L (s_I e8 22 (m_I e8 20)) 0) 24 0) 25 r10) 20 ((m_I e8 20) + 1))
            else
              if r10 = 45 then
                X4_goes_j323 (s_I (s_I (s_I (s_L (s_I e8 22 (m_I e8 20)) 0) 24 0) 25 r10) 20 ((m_I e8 20) + 1))
              else
                if r10 = 42 then
                  X4_goes_j323 (s_I (s_I (s_I (s_L (s_I e8 22 (m_I e8 20)) 0) 24 0) 25 r10) 20 ((m_I e8 20) + 1))
                else
                  if r10 = 47 then
                    X4_goes_j323 (s_I (s_I (s_I (s_L (s_I e8 22 (m_I e8 20)) 0) 24 0) 25 r10) 20 ((m_I e8 20) + 1))
                  else
                    if r10 = 60 then
                      X4_goes_j323 (s_I (s_I (s_I (s_L (s_I e8 22 (m_I e8 20)) 0) 24 0) 25 r10) 20 ((m_I e8 20) + 1))
                    else
                      if r10 = 61 then
                        X4_goes_j323 (s_I (s_I (s_I (s_L (s_I e8 22 (m_I e8 20)) 0) 24 0) 25 r10) 20 ((m_I e8 20) + 1))
                      else
                        X4_goes_j328 4 (s_I (s_I (s_I (s_L (s_I e8 22 (m_I e8 20)) 0) 24 0) 25 r10) 20 ((m_I e8 20) + 1))
    else
      ob_ (lp_ (fun a => X4_goes_b187 a) fu_ (s_I (s_I (s_L (s_I e8 22 (m_I e8 20)) 0) 24 0) 25 r10)) fun e35 =>
        X4_goes_j331 (s_I e35 21 2)
  else
    ob_ (lp_ (fun a => X4_goes_b108 a) fu_ (s_I (s_I (s_L (s_I e8 22 (m_I e8 20)) 0) 24 0) 25 r10)) fun e44 =>
      X4_goes_j331 (s_I e44 21 1)
else
  X4_goes_j331 (s_I (s_I (s_I (s_L (s_I e8 22 (m_I e8 20)) 0) 24 0) 25 r10) 21 0)
def X4_spelled_j66 (x5 : Int32) (x6 : Int64) : Option (Int64) :=
  if x5 = 0 then
  some x6
else
  some ((x6 <<< ((5 : Int32).toInt64 &&& 63)) ||| ((x5 - 96).toInt64))
def X4_spelled_j48 (x4 : Int32) (x5 : Int32) (x6 : Int64) : Option (Int64) :=
  if x4 = 0 then
  X4_spelled_j66 x5 x6
else
  X4_spelled_j66 x5 ((x6 <<< ((5 : Int32).toInt64 &&& 63)) ||| ((x4 - 96).toInt64))
def X4_spelled_j32 (x3 : Int32) (x4 : Int32) (x5 : Int32) (x6 : Int64) : Option (Int64) :=
  if x3 = 0 then
  X4_spelled_j48 x4 x5 x6
else
  X4_spelled_j48 x4 x5 ((x6 <<< ((5 : Int32).toInt64 &&& 63)) ||| ((x3 - 96).toInt64))
/-- RingHandModel.spelled(IIIIII)J -/
def X4_spelled (x0 : Int32) (x1 : Int32) (x2 : Int32) (x3 : Int32) (x4 : Int32) (x5 : Int32) : Option (Int64) :=
  if x2 = 0 then
  X4_spelled_j32 x3 x4 x5 (((x0.toInt64 - 96) <<< ((5 : Int32).toInt64 &&& 63)) ||| ((x1 - 96).toInt64))
else
  X4_spelled_j32 x3 x4 x5 (((((x0.toInt64 - 96) <<< ((5 : Int32).toInt64 &&& 63)) ||| ((x1 - 96).toInt64)) <<< ((5 : Int32).toInt64 &&& 63)) ||| ((x2 - 96).toInt64))
/-- RingHandModel.letters(I)J -/
def X4_letters (x0 : Int32) : Option (Int64) :=
  if x0 = 0 then
  ob_ (X4_spelled 115 101 101 110 0 0) fun r2 =>
    some r2
else
  if x0 = 1 then
    ob_ (X4_spelled 119 97 115 0 0 0) fun r5 =>
      some r5
  else
    if x0 = 2 then
      ob_ (X4_spelled 114 105 110 103 0 0) fun r8 =>
        some r8
    else
      if x0 = 3 then
        ob_ (X4_spelled 116 101 110 116 104 0) fun r11 =>
          some r11
      else
        if x0 = 4 then
          ob_ (X4_spelled 109 97 114 107 0 0) fun r14 =>
            some r14
        else
          if x0 = 5 then
            ob_ (X4_spelled 105 110 99 104 0 0) fun r17 =>
              some r17
          else
            if x0 = 6 then
              ob_ (X4_spelled 111 102 102 0 0 0) fun r20 =>
                some r20
            else
              if x0 = 7 then
                ob_ (X4_spelled 104 111 108 101 0 0) fun r23 =>
                  some r23
              else
                if x0 = 8 then
                  ob_ (X4_spelled 102 114 111 109 0 0) fun r26 =>
                    some r26
                else
                  if x0 = 9 then
                    ob_ (X4_spelled 103 111 0 0 0 0) fun r29 =>
                      some r29
                  else
                    if x0 = 10 then
                      ob_ (X4_spelled 115 116 97 121 0 0) fun r32 =>
                        some r32
                    else
                      if x0 = 11 then
                        ob_ (X4_spelled 98 101 104 105 110 100) fun r35 =>
                          some r35
                      else
                        if x0 = 12 then
                          ob_ (X4_spelled 104 105 109 0 0 0) fun r38 =>
                            some r38
                        else
                          if x0 = 13 then
                            ob_ (X4_spelled 104 101 114 0 0 0) fun r41 =>
                              some r41
                          else
                            if x0 = 14 then
                              ob_ (X4_spelled 108 97 103 0 0 0) fun r44 =>
                                some r44
                            else
                              if x0 = 15 then
                                ob_ (X4_spelled 119 114 105 115 116 0) fun r47 =>
                                  some r47
                              else
                                if x0 = 16 then
                                  ob_ (X4_spelled 101 121 101 0 0 0) fun r50 =>
                                    some r50
                                else
                                  if x0 = 17 then
                                    ob_ (X4_spelled 115 104 111 119 115 0) fun r53 =>
                                      some r53
                                  else
                                    if x0 = 18 then
                                      ob_ (X4_spelled 104 97 110 100 0 0) fun r56 =>
                                        some r56
                                    else
                                      if x0 = 19 then
                                        ob_ (X4_spelled 97 110 100 0 0 0) fun r59 =>
                                          some r59
                                      else
                                        if x0 = 20 then
                                          ob_ (X4_spelled 111 114 0 0 0 0) fun r62 =>
                                            some r62
                                        else
                                          ob_ (X4_spelled 110 111 116 0 0 0) fun r64 =>
                                            some r64
def X4_knownWord_b21 (σ : MS) (x1 : Int32) : Option ((Int32) ⊕ (((Int32) ⊕ (Unit)))) :=
  if 22 ≤ x1 then
  some (.inr (.inr ()))
else
  ob_ (X4_letters x1) fun r4 =>
    if (lg_cmp r4 (m_L σ)) = 0 then
    some (.inr (.inl x1))
  else
    some (.inl (x1 + 1))
/-- RingHandModel.knownWord()I -/
def X4_knownWord (σ : MS) : Option (Int32) :=
  if (m_I σ 21) = 1 then
  if (m_I σ 23) ≤ 6 then
    ob_ (lp_ (fun a => X4_knownWord_b21 σ a) fu_ 0) fun e7 =>
      Sum.elim (fun e7a => some e7a) (fun e7b => some (-1)) e7
  else
    some (-1)
else
  some (-1)
/-- RingHandModel.isGood()Z -/
def X4_isGood (σ : MS) : Option (Int32) :=
  if (m_I σ 16) = 0 then
  some 1
else
  some 0
/-- RingHandModel.wrong(I)V -/
def X4_wrong (x1 : Int32) (σ : MS) : Option (MS) :=
  if (m_I σ 16) = 0 then
  some (s_I (s_I σ 16 x1) 17 (m_I σ 22))
else
  some σ
def X4_numberHere_j54 (σ : MS) : Option (Int32 × MS) :=
  ob_ (X4_isGood σ) fun r9 =>
  some (zb_ r9, σ)
def X4_numberHere_j49 (σ : MS) : Option (Int32 × MS) :=
  ob_ (X4_wrong 2 σ) fun σ7 =>
  X4_numberHere_j54 σ7
/-- RingHandModel.numberHere(II)Z -/
def X4_numberHere (x1 : Int32) (x2 : Int32) (σ : MS) : Option (Int32 × MS) :=
  ob_ (X4_isGood σ) fun r2 =>
  if r2 = 0 then
  some (0, σ)
else
  if (m_I σ 21) = 2 then
    if 4 < (m_I σ 23) then
      X4_numberHere_j49 σ
    else
      if (m_I σ 24) < x1 then
        X4_numberHere_j49 σ
      else
        if (m_I σ 24) ≤ x2 then
          X4_numberHere_j54 σ
        else
          X4_numberHere_j49 σ
  else
    ob_ (X4_wrong 1 σ) fun σ13 =>
      X4_numberHere_j54 σ13
def X4_number_j17 (t0 : Int32) (σ : MS) : Option (Int32 × MS) :=
  ob_ (X4_isGood σ) fun r6 =>
  if r6 = 0 then
  some (t0, σ)
else
  ob_ (X4_goes σ) fun σ9 =>
    some (t0, σ9)
/-- RingHandModel.number(II)I -/
def X4_number (x1 : Int32) (x2 : Int32) (σ : MS) : Option (Int32 × MS) :=
  cb_ (X4_numberHere x1 x2 σ) fun r2 σ3 =>
  if r2 = 0 then
  X4_number_j17 0 σ3
else
  X4_number_j17 (m_I σ3 24) σ3
/-- RingHandModel.isSign(I)Z -/
def X4_isSign (x1 : Int32) (σ : MS) : Option (Int32) :=
  if (m_I σ 21) = 3 then
  if (m_I σ 25) = x1 then
    some 1
  else
    some 0
else
  some 0
/-- RingHandModel.need(Z)V -/
def X4_need (x1 : Int32) (σ : MS) : Option (MS) :=
  ob_ (X4_isGood σ) fun r2 =>
  if r2 = 0 then
  some σ
else
  if x1 = 0 then
    ob_ (X4_wrong 1 σ) fun σ6 =>
      some σ6
  else
    ob_ (X4_goes σ) fun σ8 =>
      some σ8
def X4_readsMove_j78 (x2 : Int32) (σ : MS) : Option (MS) :=
  ob_ (X4_isGood σ) fun r17 =>
  if r17 = 0 then
  some σ
else
  in_ (m_I σ 28) 12 <|
    in_ (m_I σ 28) 12 <|
    ob_ (X4_goes (s_I (s_I (s_A (s_A (s_I σ 35 x2) 43 ((m_I σ 28).toNatClampNeg) x2) 44 ((m_I σ 28).toNatClampNeg) (m_I σ 24)) 34 ((m_I σ 34) + (m_I σ 24))) 28 ((m_I σ 28) + 1))) fun σ22 =>
    some σ22
def X4_readsMove_j46 (t0 : Int32) (σ : MS) : Option (MS) :=
  cb_ (X4_numberHere 1 99 σ) fun r12 σ13 =>
  if r12 = 0 then
  some σ13
else
  if ((m_I σ13 34) + (m_I σ13 24)) ≤ 600 then
    X4_readsMove_j78 t0 σ13
  else
    ob_ (X4_wrong 2 σ13) fun σ24 =>
      X4_readsMove_j78 t0 σ24
def X4_readsMove_j14 (x1 : Int32) (σ : MS) : Option (MS) :=
  ob_ (X4_isGood σ) fun r3 =>
  if r3 = 0 then
  some σ
else
  ob_ (X4_goes σ) fun σ6 =>
    if x1 = 0 then
    cb_ (X4_number 12 480 σ6) fun r9 σ10 =>
      X4_readsMove_j46 r9 σ10
  else
    X4_readsMove_j46 (m_I σ6 35) σ6
/-- RingHandModel.readsMove(Z)V -/
def X4_readsMove (x1 : Int32) (σ : MS) : Option (MS) :=
  if (m_I σ 28) = 12 then
  ob_ (X4_wrong 2 σ) fun σ26 =>
    X4_readsMove_j14 x1 σ26
else
  X4_readsMove_j14 x1 σ
def X4_readsChange_j50 (x1 : Int32) (t0 : Int32) (σ : MS) : Option (MS) :=
  cb_ (X4_number t0 600 σ) fun r10 σ11 =>
  ob_ (X4_isGood σ11) fun r13 =>
  if r13 = 0 then
  some σ11
else
  in_ (m_I σ11 29) 6 <|
    in_ (m_I σ11 29) 6 <|
    some (s_I (s_A (s_A σ11 45 ((m_I σ11 29).toNatClampNeg) r10) 46 ((m_I σ11 29).toNatClampNeg) x1) 29 ((m_I σ11 29) + 1))
def X4_readsChange_j14 (x1 : Int32) (σ : MS) : Option (MS) :=
  ob_ (X4_isGood σ) fun r3 =>
  if r3 = 0 then
  some σ
else
  ob_ (X4_goes σ) fun σ6 =>
    if (m_I σ6 29) = 0 then
    X4_readsChange_j50 x1 1 σ6
  else
    in_ ((m_I σ6 29) - 1) 6 <|
      X4_readsChange_j50 x1 ((m_A σ6 45 (((m_I σ6 29) - 1).toNatClampNeg)) + 1) σ6
/-- RingHandModel.readsChange(I)V -/
def X4_readsChange (x1 : Int32) (σ : MS) : Option (MS) :=
  if (m_I σ 29) = 6 then
  ob_ (X4_wrong 2 σ) fun σ18 =>
    X4_readsChange_j14 x1 σ18
else
  X4_readsChange_j14 x1 σ
def X4_readsMark_j74 (x1 : Int32) (σ : MS) : Option ((Int32 × MS) ⊕ (MS)) :=
  some (.inl (x1 + 1, σ))
def X4_readsMark_b41 (x1 : Int32) (σ : MS) : Option ((Int32 × MS) ⊕ (MS)) :=
  if (m_I σ 30) ≤ x1 then
  some (.inr σ)
else
  ob_ (X4_isGood σ) fun r13 =>
    if r13 = 0 then
    some (.inr σ)
  else
    in_ x1 6 <|
      if (m_A σ 47 x1.toNatClampNeg) = (m_I σ 24) then
      ob_ (X4_wrong 4 σ) fun σ18 =>
        X4_readsMark_j74 x1 σ18
    else
      X4_readsMark_j74 x1 σ
def X4_readsMark_j14 (σ : MS) : Option (MS) :=
  ob_ (X4_isGood σ) fun r3 =>
  if r3 = 0 then
  some σ
else
  ob_ (X4_goes σ) fun σ6 =>
    cb_ (X4_numberHere 12 480 σ6) fun r8 σ9 =>
    if r8 = 0 then
    some σ9
  else
    ob_ (lp_ (fun a => X4_readsMark_b41 a.1 a.2) fu_ (0, σ9)) fun e19 =>
      ob_ (X4_isGood e19) fun r21 =>
      if r21 = 0 then
      some e19
    else
      in_ (m_I e19 30) 6 <|
        ob_ (X4_goes (s_I (s_A e19 47 ((m_I e19 30).toNatClampNeg) (m_I e19 24)) 30 ((m_I e19 30) + 1))) fun σ25 =>
        some σ25
/-- RingHandModel.readsMark()V -/
def X4_readsMark (σ : MS) : Option (MS) :=
  if (m_I σ 30) = 6 then
  ob_ (X4_wrong 2 σ) fun σ27 =>
    X4_readsMark_j14 σ27
else
  X4_readsMark_j14 σ
def X4_deeper_j61 (t1 : Int32) (σ : MS) : Option (MS) :=
  ob_ (X4_wrong t1 σ) fun σ4 =>
  some σ4
def X4_deeper_j56 (σ : MS) : Option (MS) :=
  X4_deeper_j61 2 σ
/-- RingHandModel.deeper()V -/
def X4_deeper (σ : MS) : Option (MS) :=
  if 6 ≤ (m_I σ 42) then
  if (m_I σ 21) = 2 then
    X4_deeper_j56 σ
  else
    if (m_I σ 21) = 1 then
      X4_deeper_j56 σ
    else
      ob_ (X4_isSign 40 σ) fun r7 =>
        if r7 = 0 then
        X4_deeper_j61 1 σ
      else
        X4_deeper_j56 σ
else
  in_ ((m_I σ 42) + 1) 9 <|
    some (s_A (s_I σ 42 ((m_I σ 42) + 1)) 52 (((m_I σ 42) + 1).toNatClampNeg) 0)
/-- RingHandModel.waitsFor(I)V -/
def X4_waitsFor (x1 : Int32) (σ : MS) : Option (MS) :=
  in_ (m_I σ 41) 950 <|
  some (s_I (s_A σ 51 ((m_I σ 41).toNatClampNeg) x1) 41 ((m_I σ 41) + 1))
/-- RingHandModel.puts(I)V -/
def X4_puts (x1 : Int32) (σ : MS) : Option (MS) :=
  in_ (m_I σ 40) 4200 <|
  some (s_I (s_A σ 50 ((m_I σ 40).toNatClampNeg) x1) 40 ((m_I σ 40) + 1))
def X4_part_j97 (σ : MS) : Option (MS) :=
  ob_ (X4_isGood σ) fun r9 =>
  if r9 = 0 then
  some σ
else
  ob_ (X4_goes σ) fun σ12 =>
    some σ12
def X4_part_j79 (x1 : Int32) (σ : MS) : Option (MS) :=
  ob_ (X4_puts 2 σ) fun σ19 =>
  ob_ (X4_puts x1 σ19) fun σ21 =>
  X4_part_j97 σ21
def X4_part_j74 (x1 : Int32) (σ : MS) : Option (MS) :=
  ob_ (X4_wrong 3 σ) fun σ17 =>
  X4_part_j79 x1 σ17
def X4_part_j29 (σ : MS) : Option (MS) :=
  ob_ (X4_puts 1 σ) fun σ25 =>
  ob_ (X4_puts (m_I σ25 24) σ25) fun σ27 =>
  X4_part_j97 σ27
/-- RingHandModel.part()V -/
def X4_part (σ : MS) : Option (MS) :=
  ob_ (X4_isGood σ) fun r2 =>
  if r2 = 0 then
  some σ
else
  if (m_I σ 21) = 2 then
    if (m_I σ 23) ≤ 4 then
      X4_part_j29 σ
    else
      ob_ (X4_wrong 2 σ) fun σ29 =>
        X4_part_j29 σ29
  else
    if (m_I σ 21) = 1 then
      ob_ (X4_knownWord σ) fun r14 =>
        if r14 < (m_I σ 38) then
        X4_part_j74 r14 σ
      else
        if r14 ≤ (m_I σ 39) then
          X4_part_j79 r14 σ
        else
          X4_part_j74 r14 σ
    else
      ob_ (X4_wrong 1 σ) fun σ7 =>
        X4_part_j97 σ7
def X4_operand_j50 (x2 : Int32) (x4 : Int32) (σ : MS) : Option ((Int32 × MS) ⊕ (MS)) :=
  ob_ (X4_isGood σ) fun r14 =>
  if r14 = 0 then
  some (.inl (x4 + 1, σ))
else
  ob_ (X4_waitsFor 3 σ) fun σ17 =>
    ob_ (X4_goes σ17) fun σ19 =>
    some (.inl (x4 + 1, σ19))
def X4_operand_b18 (x2 : Int32) (x4 : Int32) (σ : MS) : Option ((Int32 × MS) ⊕ (MS)) :=
  ob_ (X4_isGood σ) fun r6 =>
  if r6 = 0 then
  some (.inr σ)
else
  if x2 = 0 then
    some (.inr σ)
  else
    ob_ (X4_knownWord σ) fun r10 =>
      if r10 = 21 then
      if x4 = 6 then
        ob_ (X4_wrong 2 σ) fun σ21 =>
          X4_operand_j50 x2 x4 σ21
      else
        X4_operand_j50 x2 x4 σ
    else
      some (.inr σ)
def X4_operand_j117 (x2 : Int32) (x3 : Int32) (σ : MS) : Option ((Int32 × Int32 × MS) ⊕ (MS)) :=
  some (.inl (x2, x3, σ))
def X4_operand_j96 (x2 : Int32) (t0 : Int32) (σ : MS) : Option ((Int32 × Int32 × MS) ⊕ (MS)) :=
  if t0 = 0 then
  X4_operand_j117 x2 t0 σ
else
  ob_ (X4_waitsFor 14 σ) fun σ28 =>
    ob_ (X4_goes σ28) fun σ30 =>
    ob_ (X4_deeper σ30) fun σ32 =>
    X4_operand_j117 1 t0 σ32
def X4_operand_j95 (x2 : Int32) (σ : MS) : Option ((Int32 × Int32 × MS) ⊕ (MS)) :=
  X4_operand_j96 x2 0 σ
def X4_operand_b4 (x2 : Int32) (x3 : Int32) (σ : MS) : Option ((Int32 × Int32 × MS) ⊕ (MS)) :=
  if x3 = 0 then
  some (.inr σ)
else
  ob_ (X4_isGood σ) fun r3 =>
    if r3 = 0 then
    some (.inr σ)
  else
    ob_ (lp_ (fun a => X4_operand_b18 x2 a.1 a.2) fu_ (0, σ)) fun e22 =>
      ob_ (X4_isGood e22) fun r24 =>
      if r24 = 0 then
      X4_operand_j95 x2 e22
    else
      ob_ (X4_isSign 40 e22) fun r34 =>
        if r34 = 0 then
        X4_operand_j95 x2 e22
      else
        X4_operand_j96 x2 1 e22
/-- RingHandModel.operand(Z)V -/
def X4_operand (x1 : Int32) (σ : MS) : Option (MS) :=
  ob_ (lp_ (fun a => X4_operand_b4 a.1 a.2.1 a.2.2) fu_ (x1, 1, σ)) fun e36 =>
  ob_ (X4_part e36) fun σ38 =>
  some σ38
/-- RingHandModel.isOpen(I)Z -/
def X4_isOpen (x0 : Int32) : Option (Int32) :=
  if x0 < 14 then
  some 0
else
  some 1
def X4_strength_j39 : Option (Int32) :=
  some 4
def X4_strength_j55 : Option (Int32) :=
  some 5
/-- RingHandModel.strength(I)I -/
def X4_strength (x0 : Int32) : Option (Int32) :=
  if x0 = 5 then
  some 1
else
  if x0 = 4 then
    some 2
  else
    if x0 = 3 then
      some 3
    else
      if x0 = 6 then
        X4_strength_j39
      else
        if x0 = 7 then
          X4_strength_j39
        else
          if x0 = 8 then
            X4_strength_j55
          else
            if x0 = 9 then
              X4_strength_j55
            else
              some 6
def X4_drops_b0 (x1 : Int32) (σ : MS) : Option ((MS) ⊕ (MS)) :=
  if (m_I σ 41) ≤ 0 then
  some (.inr σ)
else
  in_ ((m_I σ 41) - 1) 950 <|
    ob_ (X4_isOpen (m_A σ 51 (((m_I σ 41) - 1).toNatClampNeg))) fun r3 =>
    if r3 = 0 then
    in_ ((m_I σ 41) - 1) 950 <|
      ob_ (X4_strength (m_A σ 51 (((m_I σ 41) - 1).toNatClampNeg))) fun r7 =>
      if r7 < x1 then
      some (.inr σ)
    else
      in_ ((m_I σ 41) - 1) 950 <|
        ob_ (X4_puts (m_A σ 51 (((m_I σ 41) - 1).toNatClampNeg)) (s_I σ 41 ((m_I σ 41) - 1))) fun σ12 =>
        some (.inl σ12)
  else
    some (.inr σ)
/-- RingHandModel.drops(I)V -/
def X4_drops (x1 : Int32) (σ : MS) : Option (MS) :=
  ob_ (lp_ (fun a => X4_drops_b0 x1 a) fu_ σ) fun e13 =>
  some e13
def X4_isOpened_b7 (σ : MS) (x1 : Int32) : Option ((Int32) ⊕ (Int32)) :=
  if x1 < 0 then
  some (.inr x1)
else
  in_ x1 950 <|
    ob_ (X4_isOpen (m_A σ 51 x1.toNatClampNeg)) fun r3 =>
    if r3 = 0 then
    some (.inl (x1 + (-1)))
  else
    some (.inr x1)
/-- RingHandModel.isOpened()Z -/
def X4_isOpened (σ : MS) : Option (Int32) :=
  ob_ (lp_ (fun a => X4_isOpened_b7 σ a) fu_ ((m_I σ 41) - 1)) fun e6 =>
  if e6 < 0 then
  some 0
else
  some 1
/-- RingHandModel.closes()V -/
def X4_closes (σ : MS) : Option (MS) :=
  ob_ (X4_drops 0 σ) fun σ2 =>
  ob_ (X4_goes (s_I (s_I σ2 41 ((m_I σ2 41) - 1)) 42 ((m_I σ2 42) - 1))) fun σ4 =>
  some σ4
def X4_expression_j337 (x3 : Int32) (σ : MS) : Option ((Int32 × MS) ⊕ (MS)) :=
  some (.inl (x3, σ))
def X4_expression_j99 (x3 : Int32) (t1 : Int32) (σ : MS) : Option ((Int32 × MS) ⊕ (MS)) :=
  ob_ (X4_waitsFor t1 σ) fun σ20 =>
  in_ (m_I σ20 42) 9 <|
  ob_ (X4_goes (s_A σ20 52 ((m_I σ20 42).toNatClampNeg) 0)) fun σ23 =>
  ob_ (X4_operand 1 σ23) fun σ25 =>
  X4_expression_j337 x3 σ25
def X4_expression_j83 (x3 : Int32) (x4 : Int32) (t1 : Int32) (σ : MS) : Option ((Int32 × MS) ⊕ (MS)) :=
  ob_ (X4_drops t1 σ) fun σ17 =>
  if x4 = 19 then
  X4_expression_j99 x3 4 σ17
else
  X4_expression_j99 x3 5 σ17
def X4_expression_j70 (x3 : Int32) (x4 : Int32) (σ : MS) : Option ((Int32 × MS) ⊕ (MS)) :=
  if x4 = 19 then
  X4_expression_j83 x3 x4 2 σ
else
  X4_expression_j83 x3 x4 1 σ
def X4_expression_j241 (x3 : Int32) (t1 : Int32) (σ : MS) : Option ((Int32 × MS) ⊕ (MS)) :=
  ob_ (X4_waitsFor t1 σ) fun σ41 =>
  ob_ (X4_goes σ41) fun σ43 =>
  ob_ (X4_operand 0 σ43) fun σ45 =>
  X4_expression_j337 x3 σ45
def X4_expression_j219 (x3 : Int32) (σ : MS) : Option ((Int32 × MS) ⊕ (MS)) :=
  ob_ (X4_drops 5 σ) fun σ36 =>
  ob_ (X4_isSign 43 σ36) fun r38 =>
  if r38 = 0 then
  X4_expression_j241 x3 9 σ36
else
  X4_expression_j241 x3 8 σ36
def X4_expression_j297 (x3 : Int32) (t1 : Int32) (σ : MS) : Option ((Int32 × MS) ⊕ (MS)) :=
  ob_ (X4_waitsFor t1 σ) fun σ58 =>
  ob_ (X4_goes σ58) fun σ60 =>
  ob_ (X4_operand 0 σ60) fun σ62 =>
  X4_expression_j337 x3 σ62
def X4_expression_j274 (x3 : Int32) (σ : MS) : Option ((Int32 × MS) ⊕ (MS)) :=
  ob_ (X4_drops 6 σ) fun σ53 =>
  ob_ (X4_isSign 42 σ53) fun r55 =>
  if r55 = 0 then
  X4_expression_j297 x3 11 σ53
else
  X4_expression_j297 x3 10 σ53
def X4_expression_j335 (σ : MS) : Option ((Int32 × MS) ⊕ (MS)) :=
  X4_expression_j337 0 σ
def X4_expression_j201 (x3 : Int32) (σ : MS) : Option ((Int32 × MS) ⊕ (MS)) :=
  ob_ (X4_isSign 43 σ) fun r33 =>
  if r33 = 0 then
  ob_ (X4_isSign 45 σ) fun r47 =>
    if r47 = 0 then
    ob_ (X4_isSign 42 σ) fun r50 =>
      if r50 = 0 then
      ob_ (X4_isSign 47 σ) fun r64 =>
        if r64 = 0 then
        ob_ (X4_isSign 41 σ) fun r67 =>
          if r67 = 0 then
          X4_expression_j335 σ
        else
          ob_ (X4_isOpened σ) fun r70 =>
            if r70 = 0 then
            X4_expression_j335 σ
          else
            ob_ (X4_closes σ) fun σ73 =>
              X4_expression_j337 x3 σ73
      else
        X4_expression_j274 x3 σ
    else
      X4_expression_j274 x3 σ
  else
    X4_expression_j219 x3 σ
else
  X4_expression_j219 x3 σ
def X4_expression_j176 (x3 : Int32) (t1 : Int32) (σ : MS) : Option ((Int32 × MS) ⊕ (MS)) :=
  ob_ (X4_waitsFor t1 σ) fun σ80 =>
  in_ (m_I σ80 42) 9 <|
  ob_ (X4_goes (s_A σ80 52 ((m_I σ80 42).toNatClampNeg) 1)) fun σ83 =>
  ob_ (X4_operand 0 σ83) fun σ85 =>
  X4_expression_j337 x3 σ85
def X4_expression_j142 (x3 : Int32) (σ : MS) : Option ((Int32 × MS) ⊕ (MS)) :=
  in_ (m_I σ 42) 9 <|
  if (m_A σ 52 ((m_I σ 42).toNatClampNeg)) = 0 then
  ob_ (X4_drops 4 σ) fun σ75 =>
    ob_ (X4_isSign 60 σ75) fun r77 =>
    if r77 = 0 then
    X4_expression_j176 x3 7 σ75
  else
    X4_expression_j176 x3 6 σ75
else
  X4_expression_j201 x3 σ
def X4_expression_b39 (x3 : Int32) (σ : MS) : Option ((Int32 × MS) ⊕ (MS)) :=
  if x3 = 0 then
  some (.inr σ)
else
  ob_ (X4_isGood σ) fun r10 =>
    if r10 = 0 then
    some (.inr σ)
  else
    ob_ (X4_knownWord σ) fun r13 =>
      if r13 = 19 then
      X4_expression_j70 x3 r13 σ
    else
      if r13 = 20 then
        X4_expression_j70 x3 r13 σ
      else
        ob_ (X4_isSign 60 σ) fun r28 =>
          if r28 = 0 then
          ob_ (X4_isSign 61 σ) fun r87 =>
            if r87 = 0 then
            X4_expression_j201 x3 σ
          else
            X4_expression_j142 x3 σ
        else
          X4_expression_j142 x3 σ
def X4_expression_j360 (σ : MS) : Option (MS) :=
  ob_ (X4_drops 0 σ) fun σ94 =>
  ob_ (X4_puts 0 σ94) fun σ96 =>
  some σ96
/-- RingHandModel.expression(II)V -/
def X4_expression (x1 : Int32) (x2 : Int32) (σ : MS) : Option (MS) :=
  ob_ (X4_isGood σ) fun r2 =>
  if r2 = 0 then
  some σ
else
  ob_ (X4_deeper (s_I (s_I (s_I (s_I σ 38 x1) 39 x2) 41 0) 42 0)) fun σ5 =>
    ob_ (X4_operand 1 σ5) fun σ7 =>
    ob_ (lp_ (fun a => X4_expression_b39 a.1 a.2) fu_ (1, σ7)) fun e89 =>
    ob_ (X4_isGood e89) fun r91 =>
    if r91 = 0 then
    X4_expression_j360 e89
  else
    if (m_I e89 42) ≤ 1 then
      X4_expression_j360 e89
    else
      ob_ (X4_wrong 1 e89) fun σ99 =>
        X4_expression_j360 σ99
def X4_once_j40 (σ : MS) : Option (Int32 × MS) :=
  ob_ (X4_isGood σ) fun r6 =>
  some (zb_ r6, σ)
def X4_once_j17 (x1 : Int32) (σ : MS) : Option (Int32 × MS) :=
  ob_ (X4_isGood (s_I σ 37 ((m_I σ 37) ||| (1 <<< (x1 &&& 31))))) fun r3 =>
  if r3 = 0 then
  X4_once_j40 (s_I σ 37 ((m_I σ 37) ||| (1 <<< (x1 &&& 31))))
else
  ob_ (X4_goes (s_I σ 37 ((m_I σ 37) ||| (1 <<< (x1 &&& 31))))) fun σ8 =>
    X4_once_j40 σ8
/-- RingHandModel.once(I)Z -/
def X4_once (x1 : Int32) (σ : MS) : Option (Int32 × MS) :=
  if (((m_I σ 37) >>> (x1 &&& 31)) &&& 1) = 1 then
  ob_ (X4_wrong 5 σ) fun σ10 =>
    X4_once_j17 x1 σ10
else
  X4_once_j17 x1 σ
def X4_readsRule_j108 (t1 : Int32) (t2 : Int32) (σ : MS) : Option (MS) :=
  ob_ (X4_expression t1 t2 σ) fun σ9 =>
  some σ9
def X4_readsRule_j95 (x1 : Int32) (σ : MS) : Option (MS) :=
  if x1 = 2 then
  X4_readsRule_j108 5 5 σ
else
  X4_readsRule_j108 5 7 σ
def X4_readsRule_j19 (σ : MS) : Option (MS) :=
  ob_ (X4_isGood σ) fun r12 =>
  if r12 = 0 then
  some σ
else
  ob_ (X4_goes σ) fun σ15 =>
    in_ (m_I σ15 31) 4 <|
    ob_ (X4_expression 0 4 (s_I (s_A σ15 49 ((m_I σ15 31).toNatClampNeg) (m_I σ15 40)) 31 ((m_I σ15 31) + 1))) fun σ18 =>
    some σ18
/-- RingHandModel.readsRule(I)V -/
def X4_readsRule (x1 : Int32) (σ : MS) : Option (MS) :=
  if x1 = 18 then
  if (m_I σ 31) = 4 then
    ob_ (X4_wrong 2 σ) fun σ20 =>
      X4_readsRule_j19 σ20
  else
    X4_readsRule_j19 σ
else
  cb_ (X4_once x1 σ) fun r3 σ4 =>
    if r3 = 0 then
    some σ4
  else
    if x1 = 2 then
      X4_readsRule_j95 x1 (s_I σ4 32 (m_I σ4 40))
    else
      X4_readsRule_j95 x1 (s_I σ4 33 (m_I σ4 40))
def X4_line_j286 (σ : MS) : Option (MS) :=
  ob_ (X4_isSign 59 σ) fun r8 =>
  ob_ (X4_need r8 σ) fun σ10 =>
  some σ10
def X4_line_j29 (t1 : Int32) (σ : MS) : Option (MS) :=
  ob_ (X4_readsMove t1 σ) fun σ6 =>
  X4_line_j286 σ6
def X4_line_j17 (x1 : Int32) (σ : MS) : Option (MS) :=
  if x1 = 10 then
  X4_line_j29 1 σ
else
  X4_line_j29 0 σ
def X4_line_j59 (t1 : Int32) (σ : MS) : Option (MS) :=
  ob_ (X4_readsChange t1 σ) fun σ15 =>
  X4_line_j286 σ15
def X4_line_j47 (x1 : Int32) (σ : MS) : Option (MS) :=
  if x1 = 12 then
  X4_line_j59 1 σ
else
  X4_line_j59 0 σ
def X4_line_j94 (x1 : Int32) (σ : MS) : Option (MS) :=
  ob_ (X4_readsRule x1 σ) fun σ20 =>
  X4_line_j286 σ20
def X4_line_j277 (t1 : Int32) (t2 : Int32) (σ : MS) : Option (MS) :=
  in_ t1 6 <|
  X4_line_j286 (s_A σ 48 t1.toNatClampNeg t2)
def X4_line_j253 (x2 : Int32) (σ : MS) : Option (MS) :=
  cb_ (X4_number 0 30 σ) fun r38 σ39 =>
  if x2 = 0 then
  X4_line_j277 3 r38 σ39
else
  X4_line_j277 3 (0 - r38) σ39
/-- RingHandModel.line()V -/
def X4_line (σ : MS) : Option (MS) :=
  ob_ (X4_knownWord σ) fun r2 =>
  if r2 = 9 then
  X4_line_j17 r2 σ
else
  if r2 = 10 then
    X4_line_j17 r2 σ
  else
    if r2 = 12 then
      X4_line_j47 r2 σ
    else
      if r2 = 13 then
        X4_line_j47 r2 σ
      else
        if r2 = 4 then
          ob_ (X4_readsMark σ) fun σ77 =>
            X4_line_j286 σ77
        else
          if r2 = 2 then
            X4_line_j94 r2 σ
          else
            if r2 = 17 then
              X4_line_j94 r2 σ
            else
              if r2 = 18 then
                X4_line_j94 r2 σ
              else
                if r2 = 11 then
                  cb_ (X4_once r2 σ) fun r69 σ70 =>
                    if r69 = 0 then
                    X4_line_j286 σ70
                  else
                    cb_ (X4_number 0 200 σ70) fun r73 σ74 =>
                      in_ 4 6 <|
                      X4_line_j286 (s_A σ74 48 ((4 : Int32).toNatClampNeg) r73)
                else
                  if r2 = 7 then
                    cb_ (X4_once r2 σ) fun r61 σ62 =>
                      if r61 = 0 then
                      X4_line_j286 σ62
                    else
                      cb_ (X4_number 1 60 σ62) fun r65 σ66 =>
                        in_ 0 6 <|
                        X4_line_j286 (s_A σ66 48 ((0 : Int32).toNatClampNeg) r65)
                  else
                    if r2 = 14 then
                      cb_ (X4_once r2 σ) fun r53 σ54 =>
                        if r53 = 0 then
                        X4_line_j286 σ54
                      else
                        cb_ (X4_number 0 24 σ54) fun r57 σ58 =>
                          in_ 1 6 <|
                          X4_line_j286 (s_A σ58 48 ((1 : Int32).toNatClampNeg) r57)
                    else
                      if r2 = 15 then
                        cb_ (X4_once r2 σ) fun r45 σ46 =>
                          if r45 = 0 then
                          X4_line_j286 σ46
                        else
                          cb_ (X4_number 1 90 σ46) fun r49 σ50 =>
                            in_ 2 6 <|
                            X4_line_j286 (s_A σ50 48 ((2 : Int32).toNatClampNeg) r49)
                      else
                        if r2 = 16 then
                          cb_ (X4_once r2 σ) fun r31 σ32 =>
                            if r31 = 0 then
                            some σ32
                          else
                            ob_ (X4_isSign 45 σ32) fun r35 =>
                              if r35 = 0 then
                              X4_line_j253 r35 σ32
                            else
                              ob_ (X4_goes σ32) fun σ43 =>
                                X4_line_j253 r35 σ43
                        else
                          ob_ (X4_wrong 1 σ) fun σ29 =>
                            X4_line_j286 σ29
def X4_copies_b2 (a1 : Nat) (a2 : Nat) (x3 : Int32) (σ : MS) : Option ((Int32 × MS) ⊕ (MS)) :=
  gd_ (m_ok a1) <|
  if (Int32.ofNat (m_len a1)) ≤ x3 then
  some (.inr σ)
else
  gd_ (m_ok a1) <| in_ x3 (m_len a1) <|
    gd_ (m_ok a2) <| in_ x3 (m_len a2) <|
    some (.inl (x3 + 1, s_A σ a2 x3.toNatClampNeg (m_A σ a1 x3.toNatClampNeg)))
/-- RingHandModel.copies([I[I)V -/
def X4_copies (a1 : Nat) (a2 : Nat) (σ : MS) : Option (MS) :=
  ob_ (lp_ (fun a => X4_copies_b2 a1 a2 a.1 a.2) fu_ (0, σ)) fun e7 =>
  some e7
def X4_scene_b115 (σ : MS) : Option ((MS) ⊕ (MS)) :=
  ob_ (X4_isGood σ) fun r14 =>
  if r14 = 0 then
  some (.inr σ)
else
  if (m_I σ 21) = 0 then
    some (.inr σ)
  else
    ob_ (X4_line σ) fun σ18 =>
      some (.inl σ18)
def X4_scene_b288 (x2 : Int32) (σ : MS) : Option ((Int32 × MS) ⊕ (MS)) :=
  if 5 ≤ x2 then
  some (.inr σ)
else
  in_ x2 6 <|
    in_ x2 12 <|
    some (.inl (x2 + 1, s_A σ 53 x2.toNatClampNeg (m_A σ 48 x2.toNatClampNeg)))
def X4_scene_b331 (x2 : Int32) (σ : MS) : Option ((Int32 × MS) ⊕ (MS)) :=
  if 6 ≤ x2 then
  some (.inr σ)
else
  in_ x2 6 <|
    in_ (6 + x2) 12 <|
    some (.inl (x2 + 1, s_A σ 53 ((6 + x2).toNatClampNeg) (m_A σ 47 x2.toNatClampNeg)))
def X4_scene_j328 (t1 : Int32) (t2 : Int32) (σ : MS) : Option (Int32 × MS) :=
  in_ t1 12 <|
  ob_ (lp_ (fun a => X4_scene_b331 a.1 a.2) fu_ (0, s_A σ 53 t1.toNatClampNeg t2)) fun e44 =>
  some (0, s_I (s_I (s_I (s_I (s_I e44 56 0) 74 0) 76 0) 68 (-1)) 78 0)
def X4_scene_j107 (σ : MS) : Option (Int32 × MS) :=
  ob_ (lp_ (fun a => X4_scene_b115 a) fu_ (s_I σ 35 (m_I σ 27))) fun e19 =>
  ob_ (X4_isGood e19) fun r21 =>
  if r21 = 0 then
  in_ 0 3 <|
    in_ 0 3 <|
    some (m_I e19 16, s_A e19 18 ((0 : Int32).toNatClampNeg) ((m_A e19 18 ((0 : Int32).toNatClampNeg)) + 1))
else
  ob_ (X4_copies 43 8 (s_I (s_I (s_I (s_I (s_I (s_I (s_I e19 1 (m_I e19 27)) 2 (m_I e19 28)) 3 (m_I e19 29)) 4 (m_I e19 30)) 5 (m_I e19 31)) 6 (m_I e19 32)) 7 (m_I e19 33))) fun σ24 =>
    ob_ (X4_copies 44 9 σ24) fun σ26 =>
    ob_ (X4_copies 45 10 σ26) fun σ28 =>
    ob_ (X4_copies 46 11 σ28) fun σ30 =>
    ob_ (X4_copies 49 12 σ30) fun σ32 =>
    ob_ (X4_copies 50 13 σ32) fun σ34 =>
    ob_ (lp_ (fun a => X4_scene_b288 a.1 a.2) fu_ (0, σ34)) fun e38 =>
    if (m_I e38 5) ≤ 0 then
    X4_scene_j328 5 (-1) e38
  else
    X4_scene_j328 5 0 e38
def X4_scene_j23 (x1 : Int32) (t1 : Int32) (σ : MS) : Option (Int32 × MS) :=
  cb_ (X4_right t1 1 σ) fun r3 σ4 =>
  if r3 = 0 then
  some (0, σ4)
else
  ob_ (X4_forgetsText (s_I (s_I (s_I (s_I (s_I σ4 15 0) 17 (-1)) 16 0) 19 x1) 20 0)) fun σ7 =>
    ob_ (X4_goes σ7) fun σ9 =>
    ob_ (X4_knownWord (s_I σ9 27 120)) fun r11 =>
    if r11 = 8 then
    ob_ (X4_goes (s_I σ9 27 120)) fun σ48 =>
      cb_ (X4_number 12 480 σ48) fun r50 σ51 =>
      ob_ (X4_isSign 59 (s_I σ51 27 r50)) fun r53 =>
      ob_ (X4_need r53 (s_I σ51 27 r50)) fun σ55 =>
      X4_scene_j107 σ55
  else
    X4_scene_j107 (s_I σ9 27 120)
def X4_scene_j22 (x1 : Int32) (σ : MS) : Option (Int32 × MS) :=
  X4_scene_j23 x1 0 σ
/-- RingHandModel.scene(I)I -/
def X4_scene (x1 : Int32) (σ : MS) : Option (Int32 × MS) :=
  if x1 < 0 then
  X4_scene_j22 x1 (s_I σ 0 0)
else
  if (m_I σ 15) < x1 then
    X4_scene_j22 x1 (s_I σ 0 0)
  else
    X4_scene_j23 x1 1 (s_I σ 0 0)
/-- RingHandModel.fault()I -/
def X4_fault (σ : MS) : Option (Int32 × MS) :=
  some (m_I σ 17, s_I σ 0 0)
/-- RingHandModel.undo()I -/
def X4_undo (σ : MS) : Option (Int32 × MS) :=
  if (m_I σ 56) = 0 then
  some ((-1), s_I σ 0 0)
else
  in_ (2 * ((m_I σ 56) - 1)) 80 <|
    in_ ((2 * ((m_I σ 56) - 1)) + 1) 80 <|
    in_ (m_A σ 55 ((2 * ((m_I σ 56) - 1)).toNatClampNeg)) 12 <|
    some ((m_I σ 56) - 1, s_A (s_I (s_I σ 0 0) 56 ((m_I σ 56) - 1)) 53 ((m_A σ 55 ((2 * ((m_I σ 56) - 1)).toNatClampNeg)).toNatClampNeg) (m_A σ 55 (((2 * ((m_I σ 56) - 1)) + 1).toNatClampNeg)))
/-- RingHandModel.within(III)Z -/
def X4_within (x0 : Int32) (x1 : Int32) (x2 : Int32) : Option (Int32) :=
  if x0 < x1 then
  some 0
else
  if x2 < x0 then
    some 0
  else
    some 1
def X4_last_b4 (σ : MS) (x1 : Int32) (x2 : Int32) : Option ((Int32 × Int32) ⊕ (Int32)) :=
  if (m_I σ 2) ≤ x2 then
  some (.inr x1)
else
  in_ x2 12 <|
    some (.inl (x1 + (m_A σ 9 x2.toNatClampNeg), x2 + 1))
/-- RingHandModel.last()I -/
def X4_last (σ : MS) : Option (Int32) :=
  ob_ (lp_ (fun a => X4_last_b4 σ a.1 a.2) fu_ (0, 0)) fun e3 =>
  some e3
/-- RingHandModel.count(I)I -/
def X4_count (x1 : Int32) (σ : MS) : Option (Int32 × MS) :=
  ob_ (X4_within x1 0 17) fun r1 =>
  cb_ (X4_right r1 1 (s_I σ 0 0)) fun r4 σ5 =>
  if r4 = 0 then
  some (0, σ5)
else
  if x1 = 0 then
    ob_ (X4_last σ5) fun r9 =>
      some (r9, σ5)
  else
    if x1 = 1 then
      some (m_I σ5 2, σ5)
    else
      if x1 = 2 then
        some (m_I σ5 3, σ5)
      else
        if x1 = 3 then
          some (m_I σ5 4, σ5)
        else
          if x1 = 4 then
            some (m_I σ5 5, σ5)
          else
            if x1 = 5 then
              in_ 5 12 <|
                some (m_A σ5 53 ((5 : Int32).toNatClampNeg), σ5)
            else
              if x1 = 6 then
                in_ 0 12 <|
                  some (m_A σ5 53 ((0 : Int32).toNatClampNeg), σ5)
              else
                if x1 = 7 then
                  in_ 1 12 <|
                    some (m_A σ5 53 ((1 : Int32).toNatClampNeg), σ5)
                else
                  if x1 = 8 then
                    in_ 2 12 <|
                      some (m_A σ5 53 ((2 : Int32).toNatClampNeg), σ5)
                  else
                    if x1 = 9 then
                      in_ 3 12 <|
                        some (m_A σ5 53 ((3 : Int32).toNatClampNeg), σ5)
                    else
                      if x1 = 10 then
                        in_ 4 12 <|
                          some (m_A σ5 53 ((4 : Int32).toNatClampNeg), σ5)
                      else
                        if x1 = 11 then
                          some (m_I σ5 56, σ5)
                        else
                          if x1 = 12 then
                            some (m_I σ5 74, σ5)
                          else
                            if x1 = 13 then
                              some (m_I σ5 76, σ5)
                            else
                              if x1 = 14 then
                                some (m_I σ5 15, σ5)
                              else
                                in_ (x1 - 15) 3 <|
                                  some (m_A σ5 18 ((x1 - 15).toNatClampNeg), σ5)
def X4_mark_j23 (x1 : Int32) (t1 : Int32) (σ : MS) : Option (Int32 × MS) :=
  cb_ (X4_right t1 1 σ) fun r3 σ4 =>
  if r3 = 0 then
  some (0, σ4)
else
  in_ (6 + x1) 12 <|
    some (m_A σ4 53 ((6 + x1).toNatClampNeg), σ4)
def X4_mark_j22 (x1 : Int32) (σ : MS) : Option (Int32 × MS) :=
  X4_mark_j23 x1 0 σ
/-- RingHandModel.mark(I)I -/
def X4_mark (x1 : Int32) (σ : MS) : Option (Int32 × MS) :=
  if x1 < 0 then
  X4_mark_j22 x1 (s_I σ 0 0)
else
  if (m_I σ 4) ≤ x1 then
    X4_mark_j22 x1 (s_I σ 0 0)
  else
    X4_mark_j23 x1 1 (s_I σ 0 0)
def X4_isTenth_j18 (t1 : Int32) (σ : MS) : Option (Int32 × MS) :=
  cb_ (X4_right t1 1 σ) fun r3 σ4 =>
  some (zb_ r3, σ4)
def X4_isTenth_j17 (σ : MS) : Option (Int32 × MS) :=
  X4_isTenth_j18 0 σ
/-- RingHandModel.isTenth(I)Z -/
def X4_isTenth (x1 : Int32) (σ : MS) : Option (Int32 × MS) :=
  if x1 < 0 then
  X4_isTenth_j17 σ
else
  ob_ (X4_last σ) fun r6 =>
    if r6 < x1 then
    X4_isTenth_j17 σ
  else
    X4_isTenth_j18 1 σ
/-- RingHandModel.isWhat(II)Z -/
def X4_isWhat (x1 : Int32) (x2 : Int32) (σ : MS) : Option (Int32 × MS) :=
  ob_ (X4_within x1 0 x2) fun r1 =>
  cb_ (X4_right r1 1 σ) fun r4 σ5 =>
  some (zb_ r4, σ5)
def X4_herIn_b10 (σ : MS) (x2 : Int32) (x3 : Int32) (x4 : Int32) : Option ((Int32 × Int32 × Int32) ⊕ (((Int32 × Int32 × Int32) ⊕ (Int32)))) :=
  if (m_I σ 2) ≤ x4 then
  some (.inr (.inr x2))
else
  in_ x4 12 <|
    if (m_A σ 9 x4.toNatClampNeg) < x3 then
    in_ x4 12 <|
      in_ x4 12 <|
      some (.inl (m_A σ 8 x4.toNatClampNeg, x3 - (m_A σ 9 x4.toNatClampNeg), x4 + 1))
  else
    some (.inr (.inl (x2, x3, x4)))
/-- RingHandModel.herIn(I)I -/
def X4_herIn (x1 : Int32) (σ : MS) : Option (Int32) :=
  ob_ (lp_ (fun a => X4_herIn_b10 σ a.1 a.2.1 a.2.2) fu_ (m_I σ 1, x1, 0)) fun e6 =>
  Sum.elim (fun e6a => in_ e6a.2.2 12 <|
  in_ e6a.2.2 12 <|
  dv_ (m_A σ 9 e6a.2.2.toNatClampNeg) <|
  some (e6a.1 + ((((m_A σ 8 e6a.2.2.toNatClampNeg) - e6a.1) * e6a.2.1) / (m_A σ 9 e6a.2.2.toNatClampNeg)))) (fun e6b => some e6b) e6
def X4_inchesOf_j19 (x2 : Int32) (t1 : Int32) (σ : MS) : Option (Int32) :=
  ob_ (X4_herIn t1 σ) fun r3 =>
  if x2 = 0 then
  some r3
else
  in_ 4 12 <|
    if (r3 + (m_A σ 53 ((4 : Int32).toNatClampNeg))) ≤ 480 then
    in_ 4 12 <|
      some (r3 + (m_A σ 53 ((4 : Int32).toNatClampNeg)))
  else
    some 480
/-- RingHandModel.inchesOf(II)I -/
def X4_inchesOf (x1 : Int32) (x2 : Int32) (σ : MS) : Option (Int32) :=
  if (m_I σ 59) ≤ x1 then
  X4_inchesOf_j19 x2 (x1 - (m_I σ 59)) σ
else
  X4_inchesOf_j19 x2 0 σ
/-- RingHandModel.inches(II)I -/
def X4_inches (x1 : Int32) (x2 : Int32) (σ : MS) : Option (Int32 × MS) :=
  cb_ (X4_isTenth x1 (s_I σ 0 0)) fun r2 σ3 =>
  if r2 = 0 then
  some (0, σ3)
else
  cb_ (X4_isWhat x2 1 σ3) fun r6 σ7 =>
    if r6 = 0 then
    some (0, σ7)
  else
    ob_ (X4_inchesOf x1 x2 σ7) fun r10 =>
      some (r10, σ7)
def X4_works_j66 : Option (Int32) :=
  some 1
/-- RingHandModel.works(III)I -/
def X4_works (x0 : Int32) (x1 : Int32) (x2 : Int32) : Option (Int32) :=
  if x0 = 4 then
  if x1 = 0 then
    some 0
  else
    if x2 = 0 then
      some 0
    else
      some 1
else
  if x0 = 5 then
    if x1 = 0 then
      if x2 = 0 then
        some 0
      else
        X4_works_j66
    else
      X4_works_j66
  else
    if x0 = 6 then
      if x2 ≤ x1 then
        some 0
      else
        some 1
    else
      if x0 = 7 then
        if x1 = x2 then
          some 1
        else
          some 0
      else
        if x0 = 8 then
          some (x1 + x2)
        else
          if x0 = 9 then
            some (x1 - x2)
          else
            if x0 = 10 then
              some (x1 * x2)
            else
              if x2 = 0 then
                some 0
              else
                dv_ x2 <|
                  some (x1 / x2)
def X4_reckons_j140 (x2 : Int32) (x3 : Int32) (σ : MS) : Option ((Int32 × Int32 × MS) ⊕ (MS)) :=
  some (.inl (x2, x3, σ))
def X4_reckons_j67 (x2 : Int32) (x3 : Int32) (t1 : Int32) (t2 : Int32) (σ : MS) : Option ((Int32 × Int32 × MS) ⊕ (MS)) :=
  in_ t1 950 <|
  X4_reckons_j140 (x2 + 1) (x3 + 1) (s_A σ 58 t1.toNatClampNeg t2)
def X4_reckons_j36 (x2 : Int32) (x3 : Int32) (x4 : Int32) (σ : MS) : Option ((Int32 × Int32 × MS) ⊕ (MS)) :=
  if x4 = 1 then
  in_ x3 4200 <|
    X4_reckons_j67 x2 x3 x2 (m_A σ 13 x3.toNatClampNeg) σ
else
  in_ x3 4200 <|
    in_ (m_A σ 13 x3.toNatClampNeg) 8 <|
    X4_reckons_j67 x2 x3 x2 (m_A σ 57 ((m_A σ 13 x3.toNatClampNeg).toNatClampNeg)) σ
def X4_reckons_j106 (x2 : Int32) (x3 : Int32) (t1 : Int32) (t2 : Int32) (σ : MS) : Option ((Int32 × Int32 × MS) ⊕ (MS)) :=
  in_ t1 950 <|
  X4_reckons_j140 x2 x3 (s_A σ 58 t1.toNatClampNeg t2)
def X4_reckons_b4 (x2 : Int32) (x3 : Int32) (σ : MS) : Option ((Int32 × Int32 × MS) ⊕ (MS)) :=
  in_ x3 4200 <|
  if (m_A σ 13 x3.toNatClampNeg) = 0 then
  some (.inr σ)
else
  in_ x3 4200 <|
    if (m_A σ 13 x3.toNatClampNeg) = 1 then
    X4_reckons_j36 x2 (x3 + 1) (m_A σ 13 x3.toNatClampNeg) σ
  else
    if (m_A σ 13 x3.toNatClampNeg) = 2 then
      X4_reckons_j36 x2 (x3 + 1) (m_A σ 13 x3.toNatClampNeg) σ
    else
      if (m_A σ 13 x3.toNatClampNeg) = 3 then
        in_ (x2 - 1) 950 <|
          if (m_A σ 58 ((x2 - 1).toNatClampNeg)) = 0 then
          X4_reckons_j106 x2 (x3 + 1) (x2 - 1) 1 σ
        else
          X4_reckons_j106 x2 (x3 + 1) (x2 - 1) 0 σ
      else
        in_ ((x2 + (-1)) - 1) 950 <|
          in_ (x2 + (-1)) 950 <|
          ob_ (X4_works (m_A σ 13 x3.toNatClampNeg) (m_A σ 58 (((x2 + (-1)) - 1).toNatClampNeg)) (m_A σ 58 ((x2 + (-1)).toNatClampNeg))) fun r14 =>
          in_ ((x2 + (-1)) - 1) 950 <|
          X4_reckons_j140 (x2 + (-1)) (x3 + 1) (s_A σ 58 (((x2 + (-1)) - 1).toNatClampNeg) r14)
/-- RingHandModel.reckons(I)I -/
def X4_reckons (x1 : Int32) (σ : MS) : Option (Int32 × MS) :=
  ob_ (lp_ (fun a => X4_reckons_b4 a.1 a.2.1 a.2.2) fu_ (0, x1, σ)) fun e20 =>
  in_ 0 950 <|
  some (m_A e20 58 ((0 : Int32).toNatClampNeg), e20)
/-- RingHandModel.bounded(III)I -/
def X4_bounded (x0 : Int32) (x1 : Int32) (x2 : Int32) : Option (Int32) :=
  if x1 ≤ x0 then
  if x0 ≤ x2 then
    some x0
  else
    some x2
else
  some x1
/-- RingHandModel.turnOf(I)I -/
def X4_turnOf (x1 : Int32) (σ : MS) : Option (Int32 × MS) :=
  if (m_I σ 6) = (-1) then
  dv_ x1 <|
    some (4320 / x1, σ)
else
  in_ 5 8 <|
    cb_ (X4_reckons (m_I σ 6) (s_A σ 57 ((5 : Int32).toNatClampNeg) x1)) fun r4 σ5 =>
    ob_ (X4_bounded r4 0 999) fun r6 =>
    some (r6, σ5)
/-- RingHandModel.turn(I)I -/
def X4_turn (x1 : Int32) (σ : MS) : Option (Int32 × MS) :=
  ob_ (X4_within x1 12 480) fun r1 =>
  cb_ (X4_right r1 1 (s_I σ 0 0)) fun r4 σ5 =>
  if r4 = 0 then
  some (0, σ5)
else
  cb_ (X4_turnOf x1 σ5) fun r8 σ9 =>
    some (r8, σ9)
def X4_whoseBy_j35 (x1 : Int32) (x2 : Int32) (x3 : Int32) (x4 : Int32) (σ : MS) : Option ((Int32 × Int32) ⊕ (Int32)) :=
  some (.inl (x3, x4 + 1))
def X4_whoseBy_b5 (x1 : Int32) (x2 : Int32) (σ : MS) (x3 : Int32) (x4 : Int32) : Option ((Int32 × Int32) ⊕ (Int32)) :=
  if (m_I σ 3) ≤ x4 then
  some (.inr x3)
else
  in_ x4 6 <|
    if x1 < ((m_A σ 10 x4.toNatClampNeg) + x2) then
    X4_whoseBy_j35 x1 x2 x3 x4 σ
  else
    in_ x4 6 <|
      X4_whoseBy_j35 x1 x2 (m_A σ 11 x4.toNatClampNeg) x4 σ
/-- RingHandModel.whoseBy(II)I -/
def X4_whoseBy (x1 : Int32) (x2 : Int32) (σ : MS) : Option (Int32) :=
  ob_ (lp_ (fun a => X4_whoseBy_b5 x1 x2 σ a.1 a.2) fu_ (0, 0)) fun e5 =>
  some e5
def X4_sawAt_j23 (x1 : Int32) (t1 : Int32) (σ : MS) : Option (Int32) :=
  ob_ (X4_whoseBy x1 (m_I σ 60) σ) fun r5 =>
  ob_ (X4_inchesOf t1 r5 σ) fun r7 =>
  some r7
/-- RingHandModel.sawAt(I)I -/
def X4_sawAt (x1 : Int32) (σ : MS) : Option (Int32) :=
  in_ 1 12 <|
  if (m_A σ 53 ((1 : Int32).toNatClampNeg)) ≤ x1 then
  in_ 1 12 <|
    X4_sawAt_j23 x1 (x1 - (m_A σ 53 ((1 : Int32).toNatClampNeg))) σ
else
  X4_sawAt_j23 x1 0 σ
/-- RingHandModel.off(II)I -/
def X4_off (x0 : Int32) (x1 : Int32) : Option (Int32) :=
  if x1 ≤ x0 then
  some (x0 - x1)
else
  some (x1 - x0)
def X4_isByMark_b2 (x1 : Int32) (σ : MS) (x2 : Int32) : Option ((Int32) ⊕ (((Unit) ⊕ (Unit)))) :=
  if (m_I σ 4) ≤ x2 then
  some (.inr (.inr ()))
else
  in_ (6 + x2) 12 <|
    ob_ (X4_off x1 (m_A σ 53 ((6 + x2).toNatClampNeg))) fun r3 =>
    if 6 < r3 then
    some (.inl (x2 + 1))
  else
    some (.inr (.inl ()))
/-- RingHandModel.isByMark(I)Z -/
def X4_isByMark (x1 : Int32) (σ : MS) : Option (Int32) :=
  ob_ (lp_ (fun a => X4_isByMark_b2 x1 σ a) fu_ 0) fun e6 =>
  Sum.elim (fun e6a => some 1) (fun e6b => some 0) e6
/-- RingHandModel.judged(I)I -/
def X4_judged (x1 : Int32) (σ : MS) : Option (Int32) :=
  ob_ (X4_isByMark x1 σ) fun r2 =>
  if r2 = 0 then
  in_ 3 12 <|
    dv_ 100 <|
    ob_ (X4_bounded (x1 + ((x1 * (m_A σ 53 ((3 : Int32).toNatClampNeg))) / 100)) 12 480) fun r6 =>
    some r6
else
  some x1
/-- RingHandModel.whoseIn(I)I -/
def X4_whoseIn (x1 : Int32) (σ : MS) : Option (Int32) :=
  ob_ (X4_whoseBy x1 0 σ) fun r2 =>
  some r2
def X4_shouldBe_j111 (t1 : Int32) (t2 : Int32) (σ : MS) : Option (Int32 × MS) :=
  in_ t1 8 <|
  in_ 5 12 <|
  in_ (m_A σ 53 ((5 : Int32).toNatClampNeg)) 4 <|
  cb_ (X4_reckons (m_A σ 12 ((m_A σ 53 ((5 : Int32).toNatClampNeg)).toNatClampNeg)) (s_A σ 57 t1.toNatClampNeg t2)) fun r23 σ24 =>
  ob_ (X4_bounded r23 0 999) fun r25 =>
  some (r25, σ24)
/-- RingHandModel.shouldBe(I)I -/
def X4_shouldBe (x1 : Int32) (σ : MS) : Option (Int32 × MS) :=
  in_ x1 601 <|
  in_ x1 601 <|
  in_ (x1 - 1) 601 <|
  ob_ (X4_bounded ((m_A σ 61 x1.toNatClampNeg) + ((m_I σ 64) * ((m_A σ 61 x1.toNatClampNeg) - (m_A σ 61 ((x1 - 1).toNatClampNeg))))) 0 999) fun r4 =>
  in_ 5 12 <|
  if (m_A σ 53 ((5 : Int32).toNatClampNeg)) = (-1) then
  some (r4, σ)
else
  in_ 0 8 <|
    in_ (x1 - 1) 601 <|
    in_ 1 8 <|
    in_ (x1 - 1) 601 <|
    in_ 2 8 <|
    in_ 3 8 <|
    ob_ (X4_sawAt x1 (s_A (s_A (s_A (s_A σ 57 ((0 : Int32).toNatClampNeg) r4) 57 ((1 : Int32).toNatClampNeg) (m_A σ 61 ((x1 - 1).toNatClampNeg))) 57 ((2 : Int32).toNatClampNeg) (m_A σ 62 ((x1 - 1).toNatClampNeg))) 57 ((3 : Int32).toNatClampNeg) x1)) fun r15 =>
    ob_ (X4_isByMark r15 (s_A (s_A (s_A (s_A σ 57 ((0 : Int32).toNatClampNeg) r4) 57 ((1 : Int32).toNatClampNeg) (m_A σ 61 ((x1 - 1).toNatClampNeg))) 57 ((2 : Int32).toNatClampNeg) (m_A σ 62 ((x1 - 1).toNatClampNeg))) 57 ((3 : Int32).toNatClampNeg) x1)) fun r17 =>
    if r17 = 0 then
    X4_shouldBe_j111 4 0 (s_A (s_A (s_A (s_A σ 57 ((0 : Int32).toNatClampNeg) r4) 57 ((1 : Int32).toNatClampNeg) (m_A σ 61 ((x1 - 1).toNatClampNeg))) 57 ((2 : Int32).toNatClampNeg) (m_A σ 62 ((x1 - 1).toNatClampNeg))) 57 ((3 : Int32).toNatClampNeg) x1)
  else
    X4_shouldBe_j111 4 1 (s_A (s_A (s_A (s_A σ 57 ((0 : Int32).toNatClampNeg) r4) 57 ((1 : Int32).toNatClampNeg) (m_A σ 61 ((x1 - 1).toNatClampNeg))) 57 ((2 : Int32).toNatClampNeg) (m_A σ 62 ((x1 - 1).toNatClampNeg))) 57 ((3 : Int32).toNatClampNeg) x1)
def X4_goesThrough_j110 (x1 : Int32) (x2 : Int32) (x3 : Int32) (σ : MS) : Option ((Int32 × MS) ⊕ (MS)) :=
  in_ x2 601 <|
  in_ x2 601 <|
  some (.inl (x2 + 1, s_A σ 63 x2.toNatClampNeg (x3 - (m_A σ 62 x2.toNatClampNeg))))
def X4_goesThrough_b7 (x1 : Int32) (x2 : Int32) (σ : MS) : Option ((Int32 × MS) ⊕ (MS)) :=
  if x1 < x2 then
  some (.inr σ)
else
  ob_ (X4_sawAt x2 σ) fun r5 =>
    ob_ (X4_judged r5 σ) fun r7 =>
    cb_ (X4_turnOf r7 σ) fun r9 σ10 =>
    in_ x2 601 <|
    ob_ (X4_whoseIn x2 (s_A σ10 61 x2.toNatClampNeg r9)) fun r13 =>
    ob_ (X4_inchesOf x2 r13 (s_A σ10 61 x2.toNatClampNeg r9)) fun r15 =>
    cb_ (X4_turnOf r15 (s_A σ10 61 x2.toNatClampNeg r9)) fun r17 σ18 =>
    if x2 = 0 then
    in_ 0 601 <|
      X4_goesThrough_j110 x1 x2 r17 (s_A σ18 62 ((0 : Int32).toNatClampNeg) r17)
  else
    cb_ (X4_shouldBe x2 σ18) fun r21 σ22 =>
      in_ 2 12 <|
      in_ (x2 - 1) 601 <|
      in_ (x2 - 1) 601 <|
      ob_ (X4_bounded (r21 - (m_A σ22 62 ((x2 - 1).toNatClampNeg))) (0 - (m_A σ22 53 ((2 : Int32).toNatClampNeg))) (m_A σ22 53 ((2 : Int32).toNatClampNeg))) fun r26 =>
      in_ x2 601 <|
      X4_goesThrough_j110 x1 x2 r17 (s_A σ22 62 x2.toNatClampNeg ((m_A σ22 62 ((x2 - 1).toNatClampNeg)) + r26))
/-- RingHandModel.goesThrough()V -/
def X4_goesThrough (σ : MS) : Option (MS) :=
  ob_ (X4_last σ) fun r2 =>
  ob_ (lp_ (fun a => X4_goesThrough_b7 r2 a.1 a.2) fu_ (0, σ)) fun e32 =>
  some e32
/-- RingHandModel.isSharp(I)Z -/
def X4_isSharp (x1 : Int32) (σ : MS) : Option (Int32) :=
  in_ x1 601 <|
  ob_ (X4_off (m_A σ 63 x1.toNatClampNeg) 0) fun r2 =>
  in_ 0 12 <|
  if (m_A σ 53 ((0 : Int32).toNatClampNeg)) < r2 then
  some 0
else
  some 1
/-- RingHandModel.isShown(I)Z -/
def X4_isShown (x1 : Int32) (σ : MS) : Option (Int32 × MS) :=
  ob_ (X4_isSharp x1 σ) fun r2 =>
  if r2 = 0 then
  if (m_I σ 7) = (-1) then
    some (1, σ)
  else
    in_ x1 601 <|
      ob_ (X4_off (m_A σ 63 x1.toNatClampNeg) 0) fun r6 =>
      in_ 6 8 <|
      in_ 0 12 <|
      in_ 7 8 <|
      ob_ (X4_whoseIn x1 (s_A (s_A σ 57 ((6 : Int32).toNatClampNeg) r6) 57 ((7 : Int32).toNatClampNeg) (m_A σ 53 ((0 : Int32).toNatClampNeg)))) fun r12 =>
      ob_ (X4_inchesOf x1 r12 (s_A (s_A σ 57 ((6 : Int32).toNatClampNeg) r6) 57 ((7 : Int32).toNatClampNeg) (m_A σ 53 ((0 : Int32).toNatClampNeg)))) fun r14 =>
      in_ 5 8 <|
      cb_ (X4_reckons (m_I σ 7) (s_A (s_A (s_A σ 57 ((6 : Int32).toNatClampNeg) r6) 57 ((7 : Int32).toNatClampNeg) (m_A σ 53 ((0 : Int32).toNatClampNeg))) 57 ((5 : Int32).toNatClampNeg) r14)) fun r17 σ18 =>
      if r17 ≤ 0 then
      some (0, σ18)
    else
      some (1, σ18)
else
  some (0, σ)
/-- RingHandModel.tenth(II)I -/
def X4_tenth (x1 : Int32) (x2 : Int32) (σ : MS) : Option (Int32 × MS) :=
  cb_ (X4_isTenth x1 (s_I σ 0 0)) fun r2 σ3 =>
  if r2 = 0 then
  some (0, σ3)
else
  cb_ (X4_isWhat x2 5 σ3) fun r6 σ7 =>
    if r6 = 0 then
    some (0, σ7)
  else
    ob_ (X4_goesThrough σ7) fun σ10 =>
      if x2 = 0 then
      ob_ (X4_whoseIn x1 σ10) fun r13 =>
        some (r13, σ10)
    else
      if x2 = 1 then
        in_ x1 601 <|
          some (m_A σ10 61 x1.toNatClampNeg, σ10)
      else
        if x2 = 2 then
          in_ x1 601 <|
            some (m_A σ10 62 x1.toNatClampNeg, σ10)
        else
          if x2 = 3 then
            in_ x1 601 <|
              some (m_A σ10 63 x1.toNatClampNeg, σ10)
          else
            if x2 = 4 then
              ob_ (X4_isSharp x1 σ10) fun r22 =>
                if r22 = 0 then
                some (0, σ10)
              else
                some (1, σ10)
            else
              cb_ (X4_isShown x1 σ10) fun r25 σ26 =>
                if r25 = 0 then
                some (0, σ26)
              else
                some (1, σ26)
def X4_sharpMany_j26 (x2 : Int32) (t0 : Int32) (t1 : Int32) (σ : MS) : Option ((Int32 × Int32) ⊕ (Int32)) :=
  some (.inl (t0 + t1, x2 + 1))
def X4_sharpMany_b4 (σ : MS) (x1 : Int32) (x2 : Int32) : Option ((Int32 × Int32) ⊕ (Int32)) :=
  ob_ (X4_last σ) fun r2 =>
  if r2 < x2 then
  some (.inr x1)
else
  ob_ (X4_isSharp x2 σ) fun r5 =>
    if r5 = 0 then
    X4_sharpMany_j26 x2 x1 0 σ
  else
    X4_sharpMany_j26 x2 x1 1 σ
/-- RingHandModel.sharpMany()I -/
def X4_sharpMany (σ : MS) : Option (Int32) :=
  ob_ (lp_ (fun a => X4_sharpMany_b4 σ a.1 a.2) fu_ (0, 0)) fun e7 =>
  some e7
def X4_mostOff_j40 (x2 : Int32) (t0 : Int32) (σ : MS) : Option ((Int32 × Int32) ⊕ (Int32)) :=
  some (.inl (t0, x2 + 1))
def X4_mostOff_b4 (σ : MS) (x1 : Int32) (x2 : Int32) : Option ((Int32 × Int32) ⊕ (Int32)) :=
  ob_ (X4_last σ) fun r2 =>
  if r2 < x2 then
  some (.inr x1)
else
  in_ x2 601 <|
    ob_ (X4_off (m_A σ 63 x2.toNatClampNeg) 0) fun r5 =>
    if r5 ≤ x1 then
    X4_mostOff_j40 x2 x1 σ
  else
    in_ x2 601 <|
      ob_ (X4_off (m_A σ 63 x2.toNatClampNeg) 0) fun r9 =>
      X4_mostOff_j40 x2 r9 σ
/-- RingHandModel.mostOff()I -/
def X4_mostOff (σ : MS) : Option (Int32) :=
  ob_ (lp_ (fun a => X4_mostOff_b4 σ a.1 a.2) fu_ (0, 0)) fun e11 =>
  some e11
def X4_longestSoft_j40 (x2 : Int32) (x3 : Int32) (t0 : Int32) (σ : MS) : Option ((Int32 × Int32 × Int32) ⊕ (Int32)) :=
  some (.inl (t0, x2, x3 + 1))
def X4_longestSoft_j29 (x1 : Int32) (x3 : Int32) (t0 : Int32) (σ : MS) : Option ((Int32 × Int32 × Int32) ⊕ (Int32)) :=
  if t0 ≤ x1 then
  X4_longestSoft_j40 t0 x3 x1 σ
else
  X4_longestSoft_j40 t0 x3 t0 σ
def X4_longestSoft_b6 (σ : MS) (x1 : Int32) (x2 : Int32) (x3 : Int32) : Option ((Int32 × Int32 × Int32) ⊕ (Int32)) :=
  ob_ (X4_last σ) fun r2 =>
  if r2 < x3 then
  some (.inr x1)
else
  ob_ (X4_isSharp x3 σ) fun r5 =>
    if r5 = 0 then
    X4_longestSoft_j29 x1 x3 (x2 + 1) σ
  else
    X4_longestSoft_j29 x1 x3 0 σ
/-- RingHandModel.longestSoft()I -/
def X4_longestSoft (σ : MS) : Option (Int32) :=
  ob_ (lp_ (fun a => X4_longestSoft_b6 σ a.1 a.2.1 a.2.2) fu_ (0, 0, 0)) fun e8 =>
  some e8
def X4_firstSoft_b2 (σ : MS) (x1 : Int32) : Option ((Int32) ⊕ (((Int32) ⊕ (Unit)))) :=
  ob_ (X4_last σ) fun r2 =>
  if r2 < x1 then
  some (.inr (.inr ()))
else
  ob_ (X4_isSharp x1 σ) fun r5 =>
    if r5 = 0 then
    some (.inr (.inl x1))
  else
    some (.inl (x1 + 1))
/-- RingHandModel.firstSoft()I -/
def X4_firstSoft (σ : MS) : Option (Int32) :=
  ob_ (lp_ (fun a => X4_firstSoft_b2 σ a) fu_ 0) fun e7 =>
  Sum.elim (fun e7a => some e7a) (fun e7b => some (-1)) e7
def X4_swings_j72 (x1 : Int32) (x2 : Int32) (x3 : Int32) (σ : MS) : Option ((Int32 × Int32 × Int32) ⊕ (Int32)) :=
  some (.inl (x1, x2, x3 + 1))
def X4_swings_j67 (x3 : Int32) (x4 : Int32) (t0 : Int32) (t1 : Int32) (σ : MS) : Option ((Int32 × Int32 × Int32) ⊕ (Int32)) :=
  X4_swings_j72 (t0 + t1) x4 x3 σ
def X4_swings_j66 (x3 : Int32) (x4 : Int32) (t0 : Int32) (σ : MS) : Option ((Int32 × Int32 × Int32) ⊕ (Int32)) :=
  X4_swings_j67 x3 x4 t0 0 σ
def X4_swings_j41 (x1 : Int32) (x2 : Int32) (x3 : Int32) (t0 : Int32) (σ : MS) : Option ((Int32 × Int32 × Int32) ⊕ (Int32)) :=
  if t0 = 0 then
  X4_swings_j72 x1 x2 x3 σ
else
  if x2 = 0 then
    X4_swings_j66 x3 t0 x1 σ
  else
    if t0 = x2 then
      X4_swings_j66 x3 t0 x1 σ
    else
      X4_swings_j67 x3 t0 x1 1 σ
def X4_swings_b6 (σ : MS) (x1 : Int32) (x2 : Int32) (x3 : Int32) : Option ((Int32 × Int32 × Int32) ⊕ (Int32)) :=
  ob_ (X4_last σ) fun r2 =>
  if r2 < x3 then
  some (.inr x1)
else
  in_ x3 601 <|
    if (m_A σ 63 x3.toNatClampNeg) ≤ 0 then
    in_ x3 601 <|
      if 0 ≤ (m_A σ 63 x3.toNatClampNeg) then
      X4_swings_j41 x1 x2 x3 0 σ
    else
      X4_swings_j41 x1 x2 x3 (-1) σ
  else
    X4_swings_j41 x1 x2 x3 1 σ
/-- RingHandModel.swings()I -/
def X4_swings (σ : MS) : Option (Int32) :=
  ob_ (lp_ (fun a => X4_swings_b6 σ a.1 a.2.1 a.2.2) fu_ (0, 0, 0)) fun e11 =>
  some e11
def X4_all_j134 (x1 : Int32) (x2 : Int32) (x3 : Int32) (σ : MS) : Option ((Int32 × Int32 × MS) ⊕ (Int32 × MS)) :=
  some (.inl (x2, x3 + 1, σ))
def X4_all_j132 (x1 : Int32) (x3 : Int32) (t0 : Int32) (t1 : Int32) (σ : MS) : Option ((Int32 × Int32 × MS) ⊕ (Int32 × MS)) :=
  X4_all_j134 x1 (t0 + t1) x3 σ
def X4_all_j101 (x1 : Int32) (x3 : Int32) (t0 : Int32) (t1 : Int32) (σ : MS) : Option ((Int32 × Int32 × MS) ⊕ (Int32 × MS)) :=
  X4_all_j134 x1 (t0 + t1) x3 σ
def X4_all_b74 (x1 : Int32) (x2 : Int32) (x3 : Int32) (σ : MS) : Option ((Int32 × Int32 × MS) ⊕ (Int32 × MS)) :=
  ob_ (X4_last σ) fun r13 =>
  if r13 < x3 then
  some (.inr (x2, σ))
else
  if x1 = 5 then
    cb_ (X4_isShown x3 σ) fun r22 σ23 =>
      if r22 = 0 then
      X4_all_j101 x1 x3 x2 0 σ23
    else
      X4_all_j101 x1 x3 x2 1 σ23
  else
    if x3 = 0 then
      X4_all_j132 x1 x3 x2 0 σ
    else
      in_ x3 601 <|
        in_ (x3 - 1) 601 <|
        ob_ (X4_off (m_A σ 62 x3.toNatClampNeg) (m_A σ 62 ((x3 - 1).toNatClampNeg))) fun r19 =>
        X4_all_j132 x1 x3 x2 r19 σ
/-- RingHandModel.all(I)I -/
def X4_all (x1 : Int32) (σ : MS) : Option (Int32 × MS) :=
  cb_ (X4_isWhat x1 6 (s_I σ 0 0)) fun r2 σ3 =>
  if r2 = 0 then
  some (0, σ3)
else
  ob_ (X4_goesThrough σ3) fun σ6 =>
    if x1 = 0 then
    ob_ (X4_sharpMany σ6) fun r35 =>
      some (r35, σ6)
  else
    if x1 = 1 then
      ob_ (X4_mostOff σ6) fun r33 =>
        some (r33, σ6)
    else
      if x1 = 2 then
        ob_ (X4_longestSoft σ6) fun r31 =>
          some (r31, σ6)
      else
        if x1 = 3 then
          ob_ (X4_firstSoft σ6) fun r29 =>
            some (r29, σ6)
        else
          if x1 = 4 then
            ob_ (X4_swings σ6) fun r27 =>
              some (r27, σ6)
          else
            ob_ (lp_ (fun a => X4_all_b74 x1 a.1 a.2.1 a.2.2) fu_ (0, 0, σ6)) fun e25 =>
              some (e25.1, e25.2)
def X4_becomes_j47 (x1 : Int32) (x2 : Int32) (σ : MS) : Option (Int32 × MS) :=
  in_ x1 12 <|
  in_ (2 * (m_I σ 56)) 80 <|
  in_ ((2 * (m_I σ 56)) + 1) 80 <|
  in_ x1 12 <|
  some (m_A σ 53 x1.toNatClampNeg, s_A (s_I (s_A (s_A σ 55 ((2 * (m_I σ 56)).toNatClampNeg) x1) 55 (((2 * (m_I σ 56)) + 1).toNatClampNeg) (m_A σ 53 x1.toNatClampNeg)) 56 ((m_I σ 56) + 1)) 53 x1.toNatClampNeg x2)
def X4_becomes_b11 (x1 : Int32) (x2 : Int32) (x3 : Int32) (σ : MS) : Option ((Int32 × MS) ⊕ (MS)) :=
  if 80 ≤ x3 then
  some (.inr σ)
else
  in_ x3 80 <|
    in_ (x3 - 2) 80 <|
    some (.inl (x3 + 1, s_A σ 55 ((x3 - 2).toNatClampNeg) (m_A σ 55 x3.toNatClampNeg)))
/-- RingHandModel.becomes(II)I -/
def X4_becomes (x1 : Int32) (x2 : Int32) (σ : MS) : Option (Int32 × MS) :=
  if (m_I σ 56) = 40 then
  ob_ (lp_ (fun a => X4_becomes_b11 x1 x2 a.1 a.2) fu_ (2, σ)) fun e9 =>
    X4_becomes_j47 x1 x2 (s_I e9 56 ((m_I e9 56) - 1))
else
  X4_becomes_j47 x1 x2 σ
/-- RingHandModel.refuses(II)I -/
def X4_refuses (x1 : Int32) (x2 : Int32) (σ : MS) : Option (Int32 × MS) :=
  in_ x1 3 <|
  in_ x1 3 <|
  some (x2, s_A σ 18 x1.toNatClampNeg ((m_A σ 18 x1.toNatClampNeg) + 1))
/-- RingHandModel.hole(I)I -/
def X4_hole (x1 : Int32) (σ : MS) : Option (Int32 × MS) :=
  ob_ (X4_within x1 1 60) fun r1 =>
  if r1 = 0 then
  cb_ (X4_refuses 1 (-1) (s_I σ 0 0)) fun r5 σ6 =>
    some (r5, σ6)
else
  cb_ (X4_becomes 0 x1 (s_I σ 0 0)) fun r8 σ9 =>
    some (r8, σ9)
/-- RingHandModel.lag(I)I -/
def X4_lag (x1 : Int32) (σ : MS) : Option (Int32 × MS) :=
  ob_ (X4_within x1 0 24) fun r1 =>
  if r1 = 0 then
  cb_ (X4_refuses 1 (-1) (s_I σ 0 0)) fun r5 σ6 =>
    some (r5, σ6)
else
  cb_ (X4_becomes 1 x1 (s_I σ 0 0)) fun r8 σ9 =>
    some (r8, σ9)
/-- RingHandModel.wrist(I)I -/
def X4_wrist (x1 : Int32) (σ : MS) : Option (Int32 × MS) :=
  ob_ (X4_within x1 1 90) fun r1 =>
  if r1 = 0 then
  cb_ (X4_refuses 1 (-1) (s_I σ 0 0)) fun r5 σ6 =>
    some (r5, σ6)
else
  cb_ (X4_becomes 2 x1 (s_I σ 0 0)) fun r8 σ9 =>
    some (r8, σ9)
/-- RingHandModel.eye(I)I -/
def X4_eye (x1 : Int32) (σ : MS) : Option (Int32 × MS) :=
  ob_ (X4_within x1 (-30) 30) fun r1 =>
  if r1 = 0 then
  cb_ (X4_refuses 1 (-99) (s_I σ 0 0)) fun r5 σ6 =>
    some (r5, σ6)
else
  cb_ (X4_becomes 3 x1 (s_I σ 0 0)) fun r8 σ9 =>
    some (r8, σ9)
def X4_hand_j18 (σ : MS) : Option (Int32 × MS) :=
  cb_ (X4_refuses 1 0 σ) fun r3 σ4 =>
  if r3 ≤ 0 then
  some (0, σ4)
else
  some (1, σ4)
/-- RingHandModel.hand(I)Z -/
def X4_hand (x1 : Int32) (σ : MS) : Option (Int32 × MS) :=
  if x1 < (-1) then
  X4_hand_j18 (s_I σ 0 0)
else
  if x1 < (m_I σ 5) then
    cb_ (X4_becomes 5 x1 (s_I σ 0 0)) fun r8 σ9 =>
      some (1, σ9)
  else
    X4_hand_j18 (s_I σ 0 0)
/-- RingHandModel.behind(I)I -/
def X4_behind (x1 : Int32) (σ : MS) : Option (Int32 × MS) :=
  ob_ (X4_within x1 0 200) fun r1 =>
  if r1 = 0 then
  cb_ (X4_refuses 1 (-1) (s_I σ 0 0)) fun r5 σ6 =>
    some (r5, σ6)
else
  cb_ (X4_becomes 4 x1 (s_I σ 0 0)) fun r8 σ9 =>
    some (r8, σ9)
def X4_chalk_j69 (x1 : Int32) (x2 : Int32) (x4 : Int32) (t0 : Int32) (σ : MS) : Option ((Int32 × Int32) ⊕ (Int32)) :=
  some (.inl (t0, x4 + 1))
def X4_chalk_j64 (x1 : Int32) (x2 : Int32) (x4 : Int32) (σ : MS) : Option ((Int32 × Int32) ⊕ (Int32)) :=
  X4_chalk_j69 x1 x2 x4 1 σ
def X4_chalk_b37 (x1 : Int32) (x2 : Int32) (σ : MS) (x3 : Int32) (x4 : Int32) : Option ((Int32 × Int32) ⊕ (Int32)) :=
  if (m_I σ 4) ≤ x4 then
  some (.inr x3)
else
  if x3 = 0 then
    in_ (6 + x4) 12 <|
      if (m_A σ 53 ((6 + x4).toNatClampNeg)) = x2 then
      X4_chalk_j64 x1 x2 x4 σ
    else
      X4_chalk_j69 x1 x2 x4 0 σ
  else
    X4_chalk_j64 x1 x2 x4 σ
def X4_chalk_j92 (σ : MS) : Option (Int32 × MS) :=
  cb_ (X4_refuses 1 (-1) σ) fun r13 σ14 =>
  some (r13, σ14)
def X4_chalk_j23 (x1 : Int32) (x2 : Int32) (t1 : Int32) (σ : MS) : Option (Int32 × MS) :=
  cb_ (X4_right t1 1 σ) fun r3 σ4 =>
  if r3 = 0 then
  some (0, σ4)
else
  ob_ (lp_ (fun a => X4_chalk_b37 x1 x2 σ4 a.1 a.2) fu_ (0, 0)) fun e10 =>
    if e10 = 0 then
    ob_ (X4_within x2 12 480) fun r15 =>
      if r15 = 0 then
      X4_chalk_j92 σ4
    else
      cb_ (X4_becomes (6 + x1) x2 σ4) fun r19 σ20 =>
        some (r19, σ20)
  else
    X4_chalk_j92 σ4
def X4_chalk_j22 (x1 : Int32) (x2 : Int32) (σ : MS) : Option (Int32 × MS) :=
  X4_chalk_j23 x1 x2 0 σ
/-- RingHandModel.chalk(II)I -/
def X4_chalk (x1 : Int32) (x2 : Int32) (σ : MS) : Option (Int32 × MS) :=
  if x1 < 0 then
  X4_chalk_j22 x1 x2 (s_I σ 0 0)
else
  if (m_I σ 4) ≤ x1 then
    X4_chalk_j22 x1 x2 (s_I σ 0 0)
  else
    X4_chalk_j23 x1 x2 1 (s_I σ 0 0)
/-- RingHandModel.takesSharp()I -/
def X4_takesSharp (σ : MS) : Option (Int32 × MS) :=
  ob_ (X4_goesThrough σ) fun σ2 =>
  ob_ (X4_sharpMany σ2) fun r4 =>
  some (r4, σ2)
def X4_best_j104 (x1 : Int32) (x2 : Int32) (x3 : Int32) (x4 : Int32) (x5 : Int32) (x6 : Int32) (x7 : Int32) (σ : MS) : Option ((Int32 × Int32 × Int32 × Int32 × Int32 × MS) ⊕ (Int32 × Int32 × Int32 × Int32 × MS)) :=
  some (.inl (x3, x4, x5, x6, x7 + 1, σ))
def X4_best_j94 (x1 : Int32) (x2 : Int32) (x3 : Int32) (x4 : Int32) (x7 : Int32) (σ : MS) : Option ((Int32 × Int32 × Int32 × Int32 × Int32 × MS) ⊕ (Int32 × Int32 × Int32 × Int32 × MS)) :=
  ob_ (X4_mostOff σ) fun r14 =>
  X4_best_j104 x1 x2 x3 x4 x7 r14 x7 σ
def X4_best_j79 (x1 : Int32) (x2 : Int32) (x3 : Int32) (x4 : Int32) (x5 : Int32) (x6 : Int32) (x7 : Int32) (σ : MS) : Option ((Int32 × Int32 × Int32 × Int32 × Int32 × MS) ⊕ (Int32 × Int32 × Int32 × Int32 × MS)) :=
  if x5 = (-1) then
  X4_best_j94 x1 x2 x3 x4 x7 σ
else
  ob_ (X4_mostOff σ) fun r16 =>
    if x6 ≤ r16 then
    X4_best_j104 x1 x2 x3 x4 x5 x6 x7 σ
  else
    X4_best_j94 x1 x2 x3 x4 x7 σ
def X4_best_j72 (x1 : Int32) (x2 : Int32) (x5 : Int32) (x6 : Int32) (x7 : Int32) (x8 : Int32) (σ : MS) : Option ((Int32 × Int32 × Int32 × Int32 × Int32 × MS) ⊕ (Int32 × Int32 × Int32 × Int32 × MS)) :=
  X4_best_j79 x1 x2 x7 x8 x5 x6 x7 σ
def X4_best_b37 (x1 : Int32) (x2 : Int32) (x3 : Int32) (x4 : Int32) (x5 : Int32) (x6 : Int32) (x7 : Int32) (σ : MS) : Option ((Int32 × Int32 × Int32 × Int32 × Int32 × MS) ⊕ (Int32 × Int32 × Int32 × Int32 × MS)) :=
  if (m_I σ 5) ≤ x7 then
  some (.inr (x3, x4, x5, x6, σ))
else
  in_ 5 12 <|
    cb_ (X4_takesSharp (s_A σ 53 ((5 : Int32).toNatClampNeg) x7)) fun r9 σ10 =>
    if x3 = (-1) then
    X4_best_j72 x1 x2 x5 x6 x7 r9 σ10
  else
    if r9 ≤ x4 then
      X4_best_j79 x1 x2 x3 x4 x5 x6 x7 σ10
    else
      X4_best_j72 x1 x2 x5 x6 x7 r9 σ10
/-- RingHandModel.best(I)I -/
def X4_best (x1 : Int32) (σ : MS) : Option (Int32 × MS) :=
  cb_ (X4_isWhat x1 3 (s_I σ 0 0)) fun r2 σ3 =>
  if r2 = 0 then
  some (0, σ3)
else
  in_ 5 12 <|
    ob_ (lp_ (fun a => X4_best_b37 x1 (m_A σ3 53 ((5 : Int32).toNatClampNeg)) a.1 a.2.1 a.2.2.1 a.2.2.2.1 a.2.2.2.2.1 a.2.2.2.2.2) fu_ ((-1), (-1), (-1), (-1), 0, σ3)) fun e19 =>
    in_ 5 12 <|
    if x1 = 0 then
    some (e19.1, s_A e19.2.2.2.2 53 ((5 : Int32).toNatClampNeg) (m_A σ3 53 ((5 : Int32).toNatClampNeg)))
  else
    if x1 = 1 then
      some (e19.2.1, s_A e19.2.2.2.2 53 ((5 : Int32).toNatClampNeg) (m_A σ3 53 ((5 : Int32).toNatClampNeg)))
    else
      if x1 = 2 then
        some (e19.2.2.1, s_A e19.2.2.2.2 53 ((5 : Int32).toNatClampNeg) (m_A σ3 53 ((5 : Int32).toNatClampNeg)))
      else
        some (e19.2.2.2.1, s_A e19.2.2.2.2 53 ((5 : Int32).toNatClampNeg) (m_A σ3 53 ((5 : Int32).toNatClampNeg)))
def X4_foretell_j80 (x1 : Int32) (x2 : Int32) (x3 : Int32) (x4 : Int32) (σ : MS) : Option ((Int32 × Int32 × Int32 × MS) ⊕ (Int32 × Int32 × MS)) :=
  some (.inl (x2, x3, x4 + 1, σ))
def X4_foretell_j54 (x1 : Int32) (x2 : Int32) (x3 : Int32) (x4 : Int32) (t1 : Int32) (σ : MS) : Option ((Int32 × Int32 × Int32 × MS) ⊕ (Int32 × Int32 × MS)) :=
  cb_ (X4_takesSharp (s_I σ 64 t1)) fun r10 σ11 =>
  if x3 < r10 then
  X4_foretell_j80 x1 (m_I σ11 64) r10 x4 σ11
else
  X4_foretell_j80 x1 x2 x3 x4 σ11
def X4_foretell_b23 (x1 : Int32) (x2 : Int32) (x3 : Int32) (x4 : Int32) (σ : MS) : Option ((Int32 × Int32 × Int32 × MS) ⊕ (Int32 × Int32 × MS)) :=
  if 48 < x4 then
  some (.inr (x2, x3, σ))
else
  dv_ 2 <|
    if (x4 - x4 / 2 * 2) = 1 then
    dv_ 2 <|
      X4_foretell_j54 x1 x2 x3 x4 (0 - ((x4 + 1) / 2)) σ
  else
    dv_ 2 <|
      X4_foretell_j54 x1 x2 x3 x4 (x4 / 2) σ
/-- RingHandModel.foretell(I)I -/
def X4_foretell (x1 : Int32) (σ : MS) : Option (Int32 × MS) :=
  cb_ (X4_isWhat x1 1 (s_I σ 0 0)) fun r2 σ3 =>
  if r2 = 0 then
  some (0, σ3)
else
  ob_ (lp_ (fun a => X4_foretell_b23 x1 a.1 a.2.1 a.2.2.1 a.2.2.2) fu_ (0, (-1), 0, σ3)) fun e14 =>
    if x1 = 0 then
    some (e14.1, s_I e14.2.2 64 0)
  else
    some (e14.2.1, s_I e14.2.2 64 0)
def X4_findsRun_j106 (x1 : Int32) (x2 : Int32) (σ : MS) : Option ((Int32 × MS) ⊕ (MS)) :=
  some (.inl (x2 + 1, σ))
def X4_findsRun_j102 (x1 : Int32) (x2 : Int32) (t1 : Int32) (t2 : Int32) (σ : MS) : Option ((Int32 × MS) ⊕ (MS)) :=
  X4_findsRun_j106 x1 x2 (s_I σ 67 (t1 + t2))
def X4_findsRun_j82 (x1 : Int32) (x2 : Int32) (σ : MS) : Option ((Int32 × MS) ⊕ (MS)) :=
  if ((m_I σ 65) - 1) = x1 then
  X4_findsRun_j102 x1 x2 (m_I σ 67) 1 σ
else
  X4_findsRun_j102 x1 x2 (m_I σ 67) 0 σ
def X4_findsRun_j79 (x1 : Int32) (x2 : Int32) (t1 : Int32) (σ : MS) : Option ((Int32 × MS) ⊕ (MS)) :=
  X4_findsRun_j82 x1 x2 (s_I σ 66 t1)
def X4_findsRun_j50 (x1 : Int32) (x2 : Int32) (σ : MS) : Option ((Int32 × MS) ⊕ (MS)) :=
  if (((m_I σ 65) + 1) - 1) = x1 then
  X4_findsRun_j79 x1 x2 x2 (s_I σ 65 ((m_I σ 65) + 1))
else
  X4_findsRun_j79 x1 x2 (m_I σ 66) (s_I σ 65 ((m_I σ 65) + 1))
def X4_findsRun_b17 (x1 : Int32) (x2 : Int32) (σ : MS) : Option ((Int32 × MS) ⊕ (MS)) :=
  ob_ (X4_last σ) fun r2 =>
  if r2 < x2 then
  some (.inr σ)
else
  ob_ (X4_isSharp x2 σ) fun r5 =>
    if r5 = 0 then
    if x2 = 0 then
      X4_findsRun_j50 x1 x2 σ
    else
      ob_ (X4_isSharp (x2 - 1) σ) fun r11 =>
        if r11 = 0 then
        X4_findsRun_j82 x1 x2 σ
      else
        X4_findsRun_j50 x1 x2 σ
  else
    X4_findsRun_j106 x1 x2 σ
/-- RingHandModel.findsRun(I)V -/
def X4_findsRun (x1 : Int32) (σ : MS) : Option (MS) :=
  ob_ (lp_ (fun a => X4_findsRun_b17 x1 a.1 a.2) fu_ (0, s_I (s_I (s_I σ 65 0) 66 (-1)) 67 0)) fun e13 =>
  some e13
def X4_runs_j44 (x1 : Int32) (x2 : Int32) (t1 : Int32) (σ : MS) : Option (Int32 × MS) :=
  cb_ (X4_right t1 1 σ) fun r11 σ12 =>
  if r11 = 0 then
  some (0, σ12)
else
  if x1 = (-1) then
    some (m_I σ12 65, σ12)
  else
    if x2 = 0 then
      some (m_I σ12 66, σ12)
    else
      some (m_I σ12 67, σ12)
def X4_runs_j43 (x1 : Int32) (x2 : Int32) (σ : MS) : Option (Int32 × MS) :=
  X4_runs_j44 x1 x2 0 σ
/-- RingHandModel.runs(II)I -/
def X4_runs (x1 : Int32) (x2 : Int32) (σ : MS) : Option (Int32 × MS) :=
  cb_ (X4_isWhat x2 1 (s_I σ 0 0)) fun r2 σ3 =>
  if r2 = 0 then
  some (0, σ3)
else
  ob_ (X4_goesThrough σ3) fun σ6 =>
    ob_ (X4_findsRun x1 σ6) fun σ8 =>
    if x1 < (-1) then
    X4_runs_j43 x1 x2 σ8
  else
    if (m_I σ8 65) ≤ x1 then
      X4_runs_j43 x1 x2 σ8
    else
      X4_runs_j44 x1 x2 1 σ8
/-- RingHandModel.sharpWith(II)I -/
def X4_sharpWith (x1 : Int32) (x2 : Int32) (σ : MS) : Option (Int32 × MS) :=
  in_ x1 12 <|
  in_ x1 12 <|
  cb_ (X4_takesSharp (s_A σ 53 x1.toNatClampNeg x2)) fun r4 σ5 =>
  in_ x1 12 <|
  some (r4, s_A σ5 53 x1.toNatClampNeg (m_A σ 53 x1.toNatClampNeg))
def X4_cure_j68 (x1 : Int32) (x2 : Int32) (x3 : Int32) (σ : MS) : Option ((Int32 × Int32 × Int32 × MS) ⊕ (Int32 × MS)) :=
  some (.inl (x1, x2, x3 + 1, σ))
def X4_cure_j49 (x1 : Int32) (x2 : Int32) (x3 : Int32) (t1 : Int32) (t2 : Int32) (σ : MS) : Option ((Int32 × Int32 × Int32 × MS) ⊕ (Int32 × MS)) :=
  cb_ (X4_sharpWith t1 t2 σ) fun r9 σ10 =>
  if x2 < r9 then
  X4_cure_j68 x3 r9 x3 σ10
else
  X4_cure_j68 x1 x2 x3 σ10
def X4_cure_j38 (x1 : Int32) (x2 : Int32) (x3 : Int32) (t1 : Int32) (σ : MS) : Option ((Int32 × Int32 × Int32 × MS) ⊕ (Int32 × MS)) :=
  if x3 = 2 then
  X4_cure_j49 x1 x2 x3 t1 90 σ
else
  X4_cure_j49 x1 x2 x3 t1 0 σ
def X4_cure_b14 (x1 : Int32) (x2 : Int32) (x3 : Int32) (σ : MS) : Option ((Int32 × Int32 × Int32 × MS) ⊕ (Int32 × MS)) :=
  if 3 ≤ x3 then
  some (.inr (x1, σ))
else
  if x3 = 0 then
    X4_cure_j38 x1 x2 x3 3 σ
  else
    if x3 = 1 then
      X4_cure_j38 x1 x2 x3 1 σ
    else
      X4_cure_j38 x1 x2 x3 2 σ
/-- RingHandModel.cure()I -/
def X4_cure (σ : MS) : Option (Int32 × MS) :=
  cb_ (X4_takesSharp (s_I σ 0 0)) fun r2 σ3 =>
  ob_ (lp_ (fun a => X4_cure_b14 a.1 a.2.1 a.2.2.1 a.2.2.2) fu_ ((-1), r2, 0, σ3)) fun e12 =>
  some (e12.1, e12.2)
def X4_wrists_j39 (x1 : Int32) (x2 : Int32) (x3 : Int32) (σ : MS) : Option ((Int32 × Int32 × Int32 × MS) ⊕ (Int32 × MS)) :=
  some (.inl (x1, x2, x3 + 1, σ))
def X4_wrists_b11 (x1 : Int32) (x2 : Int32) (x3 : Int32) (σ : MS) : Option ((Int32 × Int32 × Int32 × MS) ⊕ (Int32 × MS)) :=
  if 90 < x3 then
  some (.inr (x1, σ))
else
  cb_ (X4_sharpWith 2 x3 σ) fun r3 σ4 =>
    if x2 < r3 then
    X4_wrists_j39 x3 r3 x3 σ4
  else
    X4_wrists_j39 x1 x2 x3 σ4
/-- RingHandModel.wrists()I -/
def X4_wrists (σ : MS) : Option (Int32 × MS) :=
  ob_ (lp_ (fun a => X4_wrists_b11 a.1 a.2.1 a.2.2.1 a.2.2.2) fu_ (0, (-1), 1, s_I σ 0 0)) fun e6 =>
  some (e6.1, e6.2)
def X4_learn_j66 (x1 : Int32) (x2 : Int32) (x3 : Int32) (x4 : Int32) (σ : MS) : Option ((Int32 × Int32 × Int32 × MS) ⊕ (Int32 × MS)) :=
  some (.inl (x2, x3, x4 + 1, σ))
def X4_learn_j46 (x1 : Int32) (x2 : Int32) (x3 : Int32) (x4 : Int32) (t1 : Int32) (t2 : Int32) (σ : MS) : Option ((Int32 × Int32 × Int32 × MS) ⊕ (Int32 × MS)) :=
  cb_ (X4_sharpWith t1 t2 σ) fun r7 σ8 =>
  if x3 < r7 then
  X4_learn_j66 x1 x4 r7 x4 σ8
else
  X4_learn_j66 x1 x2 x3 x4 σ8
def X4_learn_b19 (x1 : Int32) (x2 : Int32) (x3 : Int32) (x4 : Int32) (σ : MS) : Option ((Int32 × Int32 × Int32 × MS) ⊕ (Int32 × MS)) :=
  ob_ (X4_off x1 0) fun r2 =>
  if r2 < x4 then
  some (.inr (x2, σ))
else
  if x1 ≤ 0 then
    X4_learn_j46 x1 x2 x3 x4 3 (x1 + x4) σ
  else
    X4_learn_j46 x1 x2 x3 x4 3 (x1 - x4) σ
/-- RingHandModel.learn()I -/
def X4_learn (σ : MS) : Option (Int32 × MS) :=
  in_ 3 12 <|
  ob_ (lp_ (fun a => X4_learn_b19 (m_A σ 53 ((3 : Int32).toNatClampNeg)) a.1 a.2.1 a.2.2.1 a.2.2.2) fu_ (0, (-1), 0, s_I σ 0 0)) fun e10 =>
  some (e10.1, e10.2)
def X4_shift_j80 (x1 : Int32) (x2 : Int32) (x3 : Int32) (x4 : Int32) (σ : MS) : Option ((Int32 × Int32 × Int32 × MS) ⊕ (Int32 × Int32 × MS)) :=
  some (.inl (x2, x3, x4 + 1, σ))
def X4_shift_j54 (x1 : Int32) (x2 : Int32) (x3 : Int32) (x4 : Int32) (t1 : Int32) (σ : MS) : Option ((Int32 × Int32 × Int32 × MS) ⊕ (Int32 × Int32 × MS)) :=
  cb_ (X4_takesSharp (s_I σ 60 t1)) fun r10 σ11 =>
  if x3 < r10 then
  X4_shift_j80 x1 (m_I σ11 60) r10 x4 σ11
else
  X4_shift_j80 x1 x2 x3 x4 σ11
def X4_shift_b23 (x1 : Int32) (x2 : Int32) (x3 : Int32) (x4 : Int32) (σ : MS) : Option ((Int32 × Int32 × Int32 × MS) ⊕ (Int32 × Int32 × MS)) :=
  if 48 < x4 then
  some (.inr (x2, x3, σ))
else
  dv_ 2 <|
    if (x4 - x4 / 2 * 2) = 1 then
    dv_ 2 <|
      X4_shift_j54 x1 x2 x3 x4 (0 - ((x4 + 1) / 2)) σ
  else
    dv_ 2 <|
      X4_shift_j54 x1 x2 x3 x4 (x4 / 2) σ
/-- RingHandModel.shift(I)I -/
def X4_shift (x1 : Int32) (σ : MS) : Option (Int32 × MS) :=
  cb_ (X4_isWhat x1 1 (s_I σ 0 0)) fun r2 σ3 =>
  if r2 = 0 then
  some (0, σ3)
else
  ob_ (lp_ (fun a => X4_shift_b23 x1 a.1 a.2.1 a.2.2.1 a.2.2.2) fu_ (0, (-1), 0, σ3)) fun e14 =>
    if x1 = 0 then
    some (e14.1, s_I e14.2.2 60 0)
  else
    some (e14.2.1, s_I e14.2.2 60 0)
def X4_slip_j62 (x1 : Int32) (x2 : Int32) (x3 : Int32) (σ : MS) : Option ((Int32 × Int32 × MS) ⊕ (Int32 × Int32 × MS)) :=
  some (.inl (x2, x3, s_I σ 59 ((m_I σ 59) + 1)))
def X4_slip_j54 (x1 : Int32) (x4 : Int32) (σ : MS) : Option ((Int32 × Int32 × MS) ⊕ (Int32 × Int32 × MS)) :=
  X4_slip_j62 x1 (m_I σ 59) x4 σ
def X4_slip_b25 (x1 : Int32) (x2 : Int32) (x3 : Int32) (σ : MS) : Option ((Int32 × Int32 × MS) ⊕ (Int32 × Int32 × MS)) :=
  if 30 < (m_I σ 59) then
  some (.inr (x2, x3, σ))
else
  cb_ (X4_takesSharp σ) fun r7 σ8 =>
    if x2 = (-1) then
    X4_slip_j54 x1 r7 σ8
  else
    if r7 < x3 then
      X4_slip_j54 x1 r7 σ8
    else
      X4_slip_j62 x1 x2 x3 σ8
/-- RingHandModel.slip(I)I -/
def X4_slip (x1 : Int32) (σ : MS) : Option (Int32 × MS) :=
  cb_ (X4_isWhat x1 1 (s_I σ 0 0)) fun r2 σ3 =>
  if r2 = 0 then
  some (0, σ3)
else
  ob_ (lp_ (fun a => X4_slip_b25 x1 a.1 a.2.1 a.2.2) fu_ ((-1), 0, s_I σ3 59 0)) fun e11 =>
    if x1 = 0 then
    some (e11.1, s_I e11.2.2 59 0)
  else
    some (e11.2.1, s_I e11.2.2 59 0)
def X4_isAsSeen_j41 (x1 : Int32) (t0 : Int32) (t1 : Int32) (σ : MS) : Option ((Int32) ⊕ (((Unit) ⊕ (Unit)))) :=
  if t0 = t1 then
  some (.inl (x1 + 1))
else
  some (.inr (.inl ()))
def X4_isAsSeen_b2 (σ : MS) (x1 : Int32) : Option ((Int32) ⊕ (((Unit) ⊕ (Unit)))) :=
  if (m_I σ 74) ≤ x1 then
  some (.inr (.inr ()))
else
  in_ (2 * x1) 16 <|
    ob_ (X4_isSharp (m_A σ 75 ((2 * x1).toNatClampNeg)) σ) fun r4 =>
    in_ ((2 * x1) + 1) 16 <|
    if (m_A σ 75 (((2 * x1) + 1).toNatClampNeg)) = 1 then
    X4_isAsSeen_j41 x1 r4 1 σ
  else
    X4_isAsSeen_j41 x1 r4 0 σ
/-- RingHandModel.isAsSeen()Z -/
def X4_isAsSeen (σ : MS) : Option (Int32) :=
  ob_ (lp_ (fun a => X4_isAsSeen_b2 σ a) fu_ 0) fun e8 =>
  Sum.elim (fun e8a => some 0) (fun e8b => some 1) e8
def X4_lags_j76 (x1 : Int32) (x2 : Int32) (x3 : Int32) (x4 : Int32) (x5 : Int32) (σ : MS) : Option ((Int32 × Int32 × Int32 × MS) ⊕ (Int32 × Int32 × MS)) :=
  some (.inl (x3, x4, x5 + 1, σ))
def X4_lags_j71 (x1 : Int32) (x2 : Int32) (x5 : Int32) (t0 : Int32) (σ : MS) : Option ((Int32 × Int32 × Int32 × MS) ⊕ (Int32 × Int32 × MS)) :=
  X4_lags_j76 x1 x2 t0 x5 x5 σ
def X4_lags_b31 (x1 : Int32) (x2 : Int32) (x3 : Int32) (x4 : Int32) (x5 : Int32) (σ : MS) : Option ((Int32 × Int32 × Int32 × MS) ⊕ (Int32 × Int32 × MS)) :=
  if 24 < x5 then
  some (.inr (x3, x4, σ))
else
  in_ 1 12 <|
    ob_ (X4_goesThrough (s_A σ 53 ((1 : Int32).toNatClampNeg) x5)) fun σ9 =>
    ob_ (X4_isAsSeen σ9) fun r11 =>
    if r11 = 0 then
    X4_lags_j76 x1 x2 x3 x4 x5 σ9
  else
    if x3 = (-1) then
      X4_lags_j71 x1 x2 x5 x5 σ9
    else
      X4_lags_j71 x1 x2 x5 x3 σ9
/-- RingHandModel.lags(I)I -/
def X4_lags (x1 : Int32) (σ : MS) : Option (Int32 × MS) :=
  cb_ (X4_isWhat x1 1 (s_I σ 0 0)) fun r2 σ3 =>
  if r2 = 0 then
  some (0, σ3)
else
  in_ 1 12 <|
    ob_ (lp_ (fun a => X4_lags_b31 x1 (m_A σ3 53 ((1 : Int32).toNatClampNeg)) a.1 a.2.1 a.2.2.1 a.2.2.2) fu_ ((-1), (-1), 0, σ3)) fun e14 =>
    in_ 1 12 <|
    if x1 = 0 then
    some (e14.1, s_A e14.2.2 53 ((1 : Int32).toNatClampNeg) (m_A σ3 53 ((1 : Int32).toNatClampNeg)))
  else
    some (e14.2.1, s_A e14.2.2 53 ((1 : Int32).toNatClampNeg) (m_A σ3 53 ((1 : Int32).toNatClampNeg)))
def X4_depth_j87 (x1 : Int32) (x2 : Int32) (x3 : Int32) (x4 : Int32) (x5 : Int32) (σ : MS) : Option ((Int32 × Int32 × Int32 × MS) ⊕ (Int32 × Int32 × MS)) :=
  some (.inl (x3, x4, x5 + 1, σ))
def X4_depth_j82 (x1 : Int32) (x2 : Int32) (x5 : Int32) (t0 : Int32) (σ : MS) : Option ((Int32 × Int32 × Int32 × MS) ⊕ (Int32 × Int32 × MS)) :=
  X4_depth_j87 x1 x2 t0 x5 x5 σ
def X4_depth_b41 (x1 : Int32) (x2 : Int32) (x3 : Int32) (x4 : Int32) (x5 : Int32) (σ : MS) : Option ((Int32 × Int32 × Int32 × MS) ⊕ (Int32 × Int32 × MS)) :=
  if 480 < x5 then
  some (.inr (x3, x4, σ))
else
  cb_ (X4_turnOf x5 σ) fun r13 σ14 =>
    ob_ (X4_off r13 x1) fun r15 =>
    in_ 0 12 <|
    if r15 ≤ (m_A σ14 53 ((0 : Int32).toNatClampNeg)) then
    if x3 = (-1) then
      X4_depth_j82 x1 x2 x5 x5 σ14
    else
      X4_depth_j82 x1 x2 x5 x3 σ14
  else
    X4_depth_j87 x1 x2 x3 x4 x5 σ14
/-- RingHandModel.depth(II)I -/
def X4_depth (x1 : Int32) (x2 : Int32) (σ : MS) : Option (Int32 × MS) :=
  cb_ (X4_isWhat x2 1 (s_I σ 0 0)) fun r2 σ3 =>
  if r2 = 0 then
  some (0, σ3)
else
  ob_ (X4_within x1 0 999) fun r5 =>
    cb_ (X4_right r5 2 σ3) fun r8 σ9 =>
    if r8 = 0 then
    some (0, σ9)
  else
    ob_ (lp_ (fun a => X4_depth_b41 x1 x2 a.1 a.2.1 a.2.2.1 a.2.2.2) fu_ ((-1), (-1), 12, σ9)) fun e20 =>
      if x2 = 0 then
      some (e20.1, e20.2.2)
    else
      some (e20.2.1, e20.2.2)
def X4_shots_j71 (x1 : Int32) (x3 : Int32) (x4 : Int32) (t0 : Int32) (t1 : Int32) (σ : MS) : Option ((Int32 × Int32 × Int32) ⊕ (Int32)) :=
  some (.inl (t0 + t1, x3, x4 + 1))
def X4_shots_j59 (x1 : Int32) (x2 : Int32) (x4 : Int32) (t0 : Int32) (σ : MS) : Option ((Int32 × Int32 × Int32) ⊕ (Int32)) :=
  if t0 < x1 then
  X4_shots_j71 x1 t0 x4 x2 0 σ
else
  X4_shots_j71 x1 t0 x4 x2 1 σ
def X4_shots_b34 (x1 : Int32) (σ : MS) (x2 : Int32) (x3 : Int32) (x4 : Int32) : Option ((Int32 × Int32 × Int32) ⊕ (Int32)) :=
  ob_ (X4_last σ) fun r10 =>
  if r10 < x4 then
  some (.inr x2)
else
  ob_ (X4_isSharp x4 σ) fun r13 =>
    if r13 = 0 then
    X4_shots_j59 x1 x2 x4 0 σ
  else
    X4_shots_j59 x1 x2 x4 (x3 + 1) σ
/-- RingHandModel.shots(I)I -/
def X4_shots (x1 : Int32) (σ : MS) : Option (Int32 × MS) :=
  ob_ (X4_within x1 1 601) fun r1 =>
  cb_ (X4_right r1 1 (s_I σ 0 0)) fun r4 σ5 =>
  if r4 = 0 then
  some (0, σ5)
else
  ob_ (X4_goesThrough σ5) fun σ8 =>
    ob_ (lp_ (fun a => X4_shots_b34 x1 σ8 a.1 a.2.1 a.2.2) fu_ (0, 0, 0)) fun e16 =>
    some (e16, σ8)
def X4_quickest_j92 (x1 : Int32) (x2 : Int32) (x3 : Int32) (x4 : Int32) (σ : MS) : Option ((Int32 × Int32 × Int32 × MS) ⊕ (Int32 × Int32 × MS)) :=
  some (.inl (x2, x3, x4 + 1, σ))
def X4_quickest_j86 (x1 : Int32) (x4 : Int32) (x5 : Int32) (σ : MS) : Option ((Int32 × Int32 × Int32 × MS) ⊕ (Int32 × Int32 × MS)) :=
  X4_quickest_j92 x1 x5 x4 x4 σ
def X4_quickest_b23 (x1 : Int32) (x2 : Int32) (x3 : Int32) (x4 : Int32) (σ : MS) : Option ((Int32 × Int32 × Int32 × MS) ⊕ (Int32 × Int32 × MS)) :=
  ob_ (X4_last σ) fun r6 =>
  if r6 < x4 then
  some (.inr (x2, x3, σ))
else
  ob_ (X4_whoseIn x4 σ) fun r9 =>
    ob_ (X4_inchesOf x4 r9 σ) fun r11 =>
    cb_ (X4_turnOf r11 σ) fun r13 σ14 =>
    ob_ (X4_whoseIn (x4 - 1) σ14) fun r16 =>
    ob_ (X4_inchesOf (x4 - 1) r16 σ14) fun r18 =>
    cb_ (X4_turnOf r18 σ14) fun r20 σ21 =>
    ob_ (X4_off r13 r20) fun r22 =>
    if x3 ≤ 0 then
    X4_quickest_j86 x1 x4 r22 σ21
  else
    if x2 < r22 then
      X4_quickest_j86 x1 x4 r22 σ21
    else
      X4_quickest_j92 x1 x2 x3 x4 σ21
/-- RingHandModel.quickest(I)I -/
def X4_quickest (x1 : Int32) (σ : MS) : Option (Int32 × MS) :=
  cb_ (X4_isWhat x1 1 (s_I σ 0 0)) fun r2 σ3 =>
  if r2 = 0 then
  some (0, σ3)
else
  ob_ (lp_ (fun a => X4_quickest_b23 x1 a.1 a.2.1 a.2.2.1 a.2.2.2) fu_ (0, 0, 1, σ3)) fun e26 =>
    if x1 = 0 then
    some (e26.1, e26.2.2)
  else
    some (e26.2.1, e26.2.2)
def X4_holes_j67 (x1 : Int32) (x2 : Int32) (x4 : Int32) (t0 : Int32) (σ : MS) : Option ((Int32 × Int32 × MS) ⊕ (Int32 × MS)) :=
  some (.inl (t0, x4 + (-1), σ))
def X4_holes_b40 (x1 : Int32) (x2 : Int32) (x3 : Int32) (x4 : Int32) (σ : MS) : Option ((Int32 × Int32 × MS) ⊕ (Int32 × MS)) :=
  if x4 ≤ 0 then
  some (.inr (x3, σ))
else
  in_ 0 12 <|
    ob_ (X4_sharpMany (s_A σ 53 ((0 : Int32).toNatClampNeg) x4)) fun r13 =>
    if r13 < x1 then
    X4_holes_j67 x1 x2 x4 x3 (s_A σ 53 ((0 : Int32).toNatClampNeg) x4)
  else
    X4_holes_j67 x1 x2 x4 x4 (s_A σ 53 ((0 : Int32).toNatClampNeg) x4)
/-- RingHandModel.holes(I)I -/
def X4_holes (x1 : Int32) (σ : MS) : Option (Int32 × MS) :=
  ob_ (X4_within x1 0 601) fun r1 =>
  cb_ (X4_right r1 1 (s_I σ 0 0)) fun r4 σ5 =>
  if r4 = 0 then
  some (0, σ5)
else
  ob_ (X4_goesThrough σ5) fun σ8 =>
    in_ 0 12 <|
    ob_ (lp_ (fun a => X4_holes_b40 x1 (m_A σ8 53 ((0 : Int32).toNatClampNeg)) a.1 a.2.1 a.2.2) fu_ ((-1), 60, σ8)) fun e15 =>
    in_ 0 12 <|
    some (e15.1, s_A e15.2 53 ((0 : Int32).toNatClampNeg) (m_A σ8 53 ((0 : Int32).toNatClampNeg)))
def X4_light_j155 (x1 : Int32) (x2 : Int32) (x3 : Int32) (x4 : Int32) (x5 : Int64) (x7 : Int64) (x9 : Int32) (σ : MS) : Option ((Int32 × Int64 × Int64 × Int32 × MS) ⊕ (Int32 × MS)) :=
  some (.inl (x4, x5, x7, x9 + 1, σ))
def X4_light_j143 (x1 : Int32) (x2 : Int32) (x3 : Int32) (x9 : Int32) (x10 : Int64) (x12 : Int64) (σ : MS) : Option ((Int32 × Int64 × Int64 × Int32 × MS) ⊕ (Int32 × MS)) :=
  X4_light_j155 x1 x2 x3 x9 x12 x10 x9 σ
def X4_light_b63 (x1 : Int32) (x2 : Int32) (x3 : Int32) (x4 : Int32) (x5 : Int64) (x7 : Int64) (x9 : Int32) (σ : MS) : Option ((Int32 × Int64 × Int64 × Int32 × MS) ⊕ (Int32 × MS)) :=
  if (60 - x3) < x9 then
  some (.inr (x4, σ))
else
  in_ 0 12 <|
    ob_ (X4_sharpMany (s_A σ 53 ((0 : Int32).toNatClampNeg) (x3 + x9))) fun r14 =>
    if (lg_cmp r14.toInt64 0) = 0 then
    X4_light_j155 x1 x2 x3 x4 x5 x7 x9 (s_A σ 53 ((0 : Int32).toNatClampNeg) (x3 + x9))
  else
    ob_ (X4_last (s_A σ 53 ((0 : Int32).toNatClampNeg) (x3 + x9))) fun r17 =>
      if x4 = (-1) then
      X4_light_j143 x1 x2 x3 x9 r14.toInt64 ((((x9 * x1).toInt64) * r14.toInt64) + (x2.toInt64 * (r17.toInt64 + 1))) (s_A σ 53 ((0 : Int32).toNatClampNeg) (x3 + x9))
    else
      if (lg_cmp (((((x9 * x1).toInt64) * r14.toInt64) + (x2.toInt64 * (r17.toInt64 + 1))) * x7) (x5 * r14.toInt64)) < 0 then
        X4_light_j143 x1 x2 x3 x9 r14.toInt64 ((((x9 * x1).toInt64) * r14.toInt64) + (x2.toInt64 * (r17.toInt64 + 1))) (s_A σ 53 ((0 : Int32).toNatClampNeg) (x3 + x9))
      else
        X4_light_j155 x1 x2 x3 x4 x5 x7 x9 (s_A σ 53 ((0 : Int32).toNatClampNeg) (x3 + x9))
def X4_light_j31 (x1 : Int32) (x2 : Int32) (t1 : Int32) (σ : MS) : Option (Int32 × MS) :=
  cb_ (X4_right t1 1 σ) fun r5 σ6 =>
  if r5 = 0 then
  some (0, σ6)
else
  ob_ (X4_goesThrough σ6) fun σ9 =>
    in_ 0 12 <|
    ob_ (lp_ (fun a => X4_light_b63 x1 x2 (m_A σ9 53 ((0 : Int32).toNatClampNeg)) a.1 a.2.1 a.2.2.1 a.2.2.2.1 a.2.2.2.2) fu_ ((-1), 0, 1, 0, σ9)) fun e20 =>
    in_ 0 12 <|
    some (e20.1, s_A e20.2 53 ((0 : Int32).toNatClampNeg) (m_A σ9 53 ((0 : Int32).toNatClampNeg)))
def X4_light_j30 (x1 : Int32) (x2 : Int32) (σ : MS) : Option (Int32 × MS) :=
  X4_light_j31 x1 x2 0 σ
/-- RingHandModel.light(II)I -/
def X4_light (x1 : Int32) (x2 : Int32) (σ : MS) : Option (Int32 × MS) :=
  ob_ (X4_within x1 0 99) fun r1 =>
  if r1 = 0 then
  X4_light_j30 x1 x2 (s_I σ 0 0)
else
  ob_ (X4_within x2 1 99) fun r22 =>
    if r22 = 0 then
    X4_light_j30 x1 x2 (s_I σ 0 0)
  else
    X4_light_j31 x1 x2 1 (s_I σ 0 0)
def X4_both_j51 (x2 : Int32) (t0 : Int32) (σ : MS) : Option ((Int32 × Int32 × MS) ⊕ (Int32 × MS)) :=
  some (.inl (t0, x2 + 1, σ))
def X4_both_b9 (x1 : Int32) (x2 : Int32) (σ : MS) : Option ((Int32 × Int32 × MS) ⊕ (Int32 × MS)) :=
  ob_ (X4_last σ) fun r2 =>
  if r2 < x2 then
  some (.inr (x1, σ))
else
  ob_ (X4_inchesOf x2 0 σ) fun r5 =>
    cb_ (X4_turnOf r5 σ) fun r7 σ8 =>
    ob_ (X4_inchesOf x2 1 σ8) fun r10 =>
    cb_ (X4_turnOf r10 σ8) fun r12 σ13 =>
    ob_ (X4_off r7 r12) fun r14 =>
    if r14 ≤ x1 then
    X4_both_j51 x2 x1 σ13
  else
    X4_both_j51 x2 r14 σ13
/-- RingHandModel.both()I -/
def X4_both (σ : MS) : Option (Int32 × MS) :=
  ob_ (lp_ (fun a => X4_both_b9 a.1 a.2.1 a.2.2) fu_ (0, 0, s_I σ 0 0)) fun e17 =>
  dv_ 2 <|
  some ((e17.1 + 1) / 2, e17.2)
def X4_addsSpot_j31 (x1 : Int32) (x3 : Int32) (t0 : Int32) (σ : MS) : Option ((Int32 × Int32) ⊕ (Int32)) :=
  some (.inl (t0, x3 + 1))
def X4_addsSpot_j26 (x1 : Int32) (x3 : Int32) (σ : MS) : Option ((Int32 × Int32) ⊕ (Int32)) :=
  X4_addsSpot_j31 x1 x3 1 σ
def X4_addsSpot_b4 (x1 : Int32) (σ : MS) (x2 : Int32) (x3 : Int32) : Option ((Int32 × Int32) ⊕ (Int32)) :=
  if (m_I σ 69) ≤ x3 then
  some (.inr x2)
else
  if x2 = 0 then
    in_ x3 13 <|
      if (m_A σ 71 x3.toNatClampNeg) = x1 then
      X4_addsSpot_j26 x1 x3 σ
    else
      X4_addsSpot_j31 x1 x3 0 σ
  else
    X4_addsSpot_j26 x1 x3 σ
/-- RingHandModel.addsSpot(I)V -/
def X4_addsSpot (x1 : Int32) (σ : MS) : Option (MS) :=
  ob_ (lp_ (fun a => X4_addsSpot_b4 x1 σ a.1 a.2) fu_ (0, 0)) fun e5 =>
  if e5 = 0 then
  in_ (m_I σ 69) 13 <|
    some (s_I (s_A σ 71 ((m_I σ 69).toNatClampNeg) x1) 69 ((m_I σ 69) + 1))
else
  some σ
def X4_nextNumbers_b4 (x1 : Int32) (σ : MS) (x2 : Int32) : Option ((Int32) ⊕ (Int32)) :=
  if x2 < 0 then
  some (.inr x2)
else
  in_ x2 3 <|
    if (m_A σ 72 x2.toNatClampNeg) = (((m_I σ 69) - x1) + x2) then
    some (.inl (x2 + (-1)))
  else
    some (.inr x2)
def X4_nextNumbers_b51 (x1 : Int32) (x3 : Int32) (σ : MS) : Option ((Int32 × MS) ⊕ (MS)) :=
  if x1 ≤ x3 then
  some (.inr σ)
else
  in_ (x3 - 1) 3 <|
    in_ x3 3 <|
    some (.inl (x3 + 1, s_A σ 72 x3.toNatClampNeg ((m_A σ 72 ((x3 - 1).toNatClampNeg)) + 1)))
/-- RingHandModel.nextNumbers(I)Z -/
def X4_nextNumbers (x1 : Int32) (σ : MS) : Option (Int32 × MS) :=
  ob_ (lp_ (fun a => X4_nextNumbers_b4 x1 σ a) fu_ (x1 - 1)) fun e4 =>
  if 0 ≤ e4 then
  in_ e4 3 <|
    in_ e4 3 <|
    ob_ (lp_ (fun a => X4_nextNumbers_b51 x1 a.1 a.2) fu_ (e4 + 1, s_A σ 72 e4.toNatClampNeg ((m_A σ 72 e4.toNatClampNeg) + 1))) fun e11 =>
    some (1, e11)
else
  some (0, σ)
def X4_marks_b36 (x1 : Int32) (x2 : Int32) (σ : MS) : Option ((Int32 × MS) ⊕ (MS)) :=
  if (m_I σ 2) ≤ x2 then
  some (.inr σ)
else
  in_ x2 12 <|
    ob_ (X4_addsSpot (m_A σ 8 x2.toNatClampNeg) σ) fun σ12 =>
    some (.inl (x2 + 1, σ12))
def X4_marks_b94 (x1 : Int32) (x2 : Int32) (x3 : Int32) (σ : MS) : Option ((Int32 × MS) ⊕ (MS)) :=
  if x1 ≤ x3 then
  some (.inr σ)
else
  in_ x3 3 <|
    some (.inl (x3 + 1, s_A σ 72 x3.toNatClampNeg x3))
def X4_marks_b125 (x1 : Int32) (x2 : Int32) (x3 : Int32) (x5 : Int32) (σ : MS) : Option ((Int32 × MS) ⊕ (MS)) :=
  if x1 ≤ x5 then
  some (.inr σ)
else
  in_ x5 3 <|
    in_ (m_A σ 72 x5.toNatClampNeg) 13 <|
    in_ (6 + x5) 12 <|
    some (.inl (x5 + 1, s_A σ 53 ((6 + x5).toNatClampNeg) (m_A σ 71 ((m_A σ 72 x5.toNatClampNeg).toNatClampNeg))))
def X4_marks_j208 (x1 : Int32) (x2 : Int32) (x3 : Int32) (σ : MS) : Option ((Int32 × Int32 × MS) ⊕ (Int32 × MS)) :=
  cb_ (X4_nextNumbers x1 σ) fun r31 σ32 =>
  some (.inl (x3, r31, σ32))
def X4_marks_b177 (x1 : Int32) (x2 : Int32) (x3 : Int32) (x6 : Int32) (σ : MS) : Option ((Int32 × MS) ⊕ (MS)) :=
  if x1 ≤ x6 then
  some (.inr σ)
else
  in_ x6 3 <|
    in_ (m_A σ 72 x6.toNatClampNeg) 13 <|
    in_ x6 3 <|
    some (.inl (x6 + 1, s_A σ 70 x6.toNatClampNeg (m_A σ 71 ((m_A σ 72 x6.toNatClampNeg).toNatClampNeg))))
def X4_marks_b117 (x1 : Int32) (x2 : Int32) (x3 : Int32) (x4 : Int32) (σ : MS) : Option ((Int32 × Int32 × MS) ⊕ (Int32 × MS)) :=
  if x4 = 0 then
  some (.inr (x3, σ))
else
  ob_ (lp_ (fun a => X4_marks_b125 x1 x2 x3 a.1 a.2) fu_ (0, σ)) fun e25 =>
    cb_ (X4_takesSharp e25) fun r27 σ28 =>
    if r27 ≤ x3 then
    X4_marks_j208 x1 x2 x3 σ28
  else
    ob_ (lp_ (fun a => X4_marks_b177 x1 x2 r27 a.1 a.2) fu_ (0, σ28)) fun e37 =>
      X4_marks_j208 x1 x2 r27 e37
/-- RingHandModel.marks(I)I -/
def X4_marks (x1 : Int32) (σ : MS) : Option (Int32 × MS) :=
  ob_ (X4_within x1 0 3) fun r1 =>
  cb_ (X4_right r1 1 (s_I σ 0 0)) fun r4 σ5 =>
  if r4 = 0 then
  some (0, σ5)
else
  ob_ (X4_addsSpot (m_I σ5 1) (s_I σ5 69 0)) fun σ8 =>
    ob_ (lp_ (fun a => X4_marks_b36 x1 a.1 a.2) fu_ (0, σ8)) fun e13 =>
    if x1 ≤ (m_I e13 69) then
    ob_ (X4_copies 53 54 e13) fun σ16 =>
      ob_ (lp_ (fun a => X4_marks_b94 x1 (m_I σ16 4) a.1 a.2) fu_ (0, s_I σ16 4 x1)) fun e19 =>
      ob_ (lp_ (fun a => X4_marks_b117 x1 (m_I σ16 4) a.1 a.2.1 a.2.2) fu_ ((-1), 1, e19)) fun e38 =>
      ob_ (X4_copies 54 53 (s_I e38.2 4 (m_I σ16 4))) fun σ40 =>
      some (e38.1, s_I σ40 68 x1)
  else
    some ((-1), e13)
def X4_kept_j31 (x1 : Int32) (t1 : Int32) (σ : MS) : Option (Int32 × MS) :=
  cb_ (X4_right t1 1 σ) fun r3 σ4 =>
  if r3 = 0 then
  some (0, σ4)
else
  in_ x1 3 <|
    some (m_A σ4 70 x1.toNatClampNeg, σ4)
def X4_kept_j30 (x1 : Int32) (σ : MS) : Option (Int32 × MS) :=
  X4_kept_j31 x1 0 σ
/-- RingHandModel.kept(I)I -/
def X4_kept (x1 : Int32) (σ : MS) : Option (Int32 × MS) :=
  if (m_I σ 68) = (-1) then
  X4_kept_j30 x1 (s_I σ 0 0)
else
  if x1 < 0 then
    X4_kept_j30 x1 (s_I σ 0 0)
  else
    if (m_I σ 68) ≤ x1 then
      X4_kept_j30 x1 (s_I σ 0 0)
    else
      X4_kept_j31 x1 1 (s_I σ 0 0)
/-- RingHandModel.draw(I)I -/
def X4_draw (x1 : Int32) (σ : MS) : Option (Int32 × MS) :=
  dv_ x1 <|
  some ((((((m_I σ 73) * 1103515245) + 12345) >>> ((16 : Int32) &&& 31)) &&& 32767) - (((((m_I σ 73) * 1103515245) + 12345) >>> ((16 : Int32) &&& 31)) &&& 32767) / x1 * x1, s_I σ 73 (((m_I σ 73) * 1103515245) + 12345))
def X4_takes_j143 (x2 : Int32) (x3 : Int32) (x4 : Int32) (x5 : Int32) (x6 : Int32) (x7 : Int32) (x9 : Int32) (t0 : Int32) (σ : MS) : Option ((Int32 × Int32 × Int32 × Int32 × MS) ⊕ (Int32 × Int32 × Int32 × MS)) :=
  some (.inl (x6, x7, t0, x9 + 1, σ))
def X4_takes_j136 (x2 : Int32) (x3 : Int32) (x4 : Int32) (x5 : Int32) (x6 : Int32) (x7 : Int32) (x9 : Int32) (x10 : Int32) (σ : MS) : Option ((Int32 × Int32 × Int32 × Int32 × MS) ⊕ (Int32 × Int32 × Int32 × MS)) :=
  X4_takes_j143 x2 x3 x4 x5 x6 x7 x9 x10 σ
def X4_takes_j114 (x2 : Int32) (x3 : Int32) (x4 : Int32) (x5 : Int32) (x7 : Int32) (x8 : Int32) (x9 : Int32) (x10 : Int32) (t0 : Int32) (t1 : Int32) (σ : MS) : Option ((Int32 × Int32 × Int32 × Int32 × MS) ⊕ (Int32 × Int32 × Int32 × MS)) :=
  if x9 = 0 then
  X4_takes_j136 x2 x3 x4 x5 (t0 + t1) (x7 + x10) x9 x10 σ
else
  if x8 ≤ x10 then
    X4_takes_j143 x2 x3 x4 x5 (t0 + t1) (x7 + x10) x9 x8 σ
  else
    X4_takes_j136 x2 x3 x4 x5 (t0 + t1) (x7 + x10) x9 x10 σ
def X4_takes_b79 (x2 : Int32) (x3 : Int32) (x4 : Int32) (x5 : Int32) (x6 : Int32) (x7 : Int32) (x8 : Int32) (x9 : Int32) (σ : MS) : Option ((Int32 × Int32 × Int32 × Int32 × MS) ⊕ (Int32 × Int32 × Int32 × MS)) :=
  if x2 ≤ x9 then
  some (.inr (x6, x7, x8, σ))
else
  cb_ (X4_draw x3 σ) fun r14 σ15 =>
    cb_ (X4_takesSharp (s_I σ15 59 r14)) fun r17 σ18 =>
    if r17 < x4 then
    X4_takes_j114 x2 x3 x4 x5 x7 x8 x9 r17 x6 0 σ18
  else
    X4_takes_j114 x2 x3 x4 x5 x7 x8 x9 r17 x6 1 σ18
def X4_takes_j53 (x1 : Int32) (x2 : Int32) (x3 : Int32) (x4 : Int32) (x5 : Int32) (t1 : Int32) (σ : MS) : Option (Int32 × MS) :=
  cb_ (X4_right t1 2 σ) fun r9 σ10 =>
  if r9 = 0 then
  some (0, σ10)
else
  ob_ (lp_ (fun a => X4_takes_b79 x2 x3 x4 x5 a.1 a.2.1 a.2.2.1 a.2.2.2.1 a.2.2.2.2) fu_ (0, 0, 0, 0, s_I σ10 73 x1)) fun e22 =>
    if x5 = 0 then
    some (e22.1, s_I e22.2.2.2 59 0)
  else
    if x5 = 1 then
      some (e22.2.1, s_I e22.2.2.2 59 0)
    else
      some (e22.2.2.1, s_I e22.2.2.2 59 0)
def X4_takes_j52 (x1 : Int32) (x2 : Int32) (x3 : Int32) (x4 : Int32) (x5 : Int32) (σ : MS) : Option (Int32 × MS) :=
  X4_takes_j53 x1 x2 x3 x4 x5 0 σ
/-- RingHandModel.takes(IIIII)I -/
def X4_takes (x1 : Int32) (x2 : Int32) (x3 : Int32) (x4 : Int32) (x5 : Int32) (σ : MS) : Option (Int32 × MS) :=
  cb_ (X4_isWhat x5 2 (s_I σ 0 0)) fun r2 σ3 =>
  if r2 = 0 then
  some (0, σ3)
else
  ob_ (X4_within x2 0 40) fun r5 =>
    if r5 = 0 then
    X4_takes_j52 x1 x2 x3 x4 x5 σ3
  else
    ob_ (X4_within x3 1 30) fun r25 =>
      if r25 = 0 then
      X4_takes_j52 x1 x2 x3 x4 x5 σ3
    else
      ob_ (X4_within x4 0 601) fun r28 =>
        if r28 = 0 then
        X4_takes_j52 x1 x2 x3 x4 x5 σ3
      else
        X4_takes_j53 x1 x2 x3 x4 x5 1 σ3
def X4_see_j64 (t1 : Int32) (t2 : Int32) (σ : MS) : Option (Int32 × MS) :=
  in_ t1 16 <|
  some ((m_I σ 74) + 1, s_I (s_A σ 75 t1.toNatClampNeg t2) 74 ((m_I σ 74) + 1))
/-- RingHandModel.see(IZ)I -/
def X4_see (x1 : Int32) (x2 : Int32) (σ : MS) : Option (Int32 × MS) :=
  cb_ (X4_isTenth x1 (s_I σ 0 0)) fun r2 σ3 =>
  if r2 = 0 then
  some (0, σ3)
else
  if (m_I σ3 74) = 8 then
    cb_ (X4_refuses 2 (-1) σ3) fun r10 σ11 =>
      some (r10, σ11)
  else
    in_ (2 * (m_I σ3 74)) 16 <|
      if x2 = 0 then
      X4_see_j64 ((2 * (m_I σ3 74)) + 1) 0 (s_A σ3 75 ((2 * (m_I σ3 74)).toNatClampNeg) x1)
    else
      X4_see_j64 ((2 * (m_I σ3 74)) + 1) 1 (s_A σ3 75 ((2 * (m_I σ3 74)).toNatClampNeg) x1)
def X4_fits_j99 (x1 : Int32) (x2 : Int32) (x3 : Int32) (x4 : Int32) (x5 : Int32) (σ : MS) : Option ((Int32 × Int32 × MS) ⊕ (Int32 × Int32 × MS)) :=
  some (.inl (x3, x4, s_I σ 59 ((m_I σ 59) + 1)))
def X4_fits_b53 (x1 : Int32) (x2 : Int32) (x5 : Int32) (x3 : Int32) (x4 : Int32) (σ : MS) : Option ((Int32 × Int32 × MS) ⊕ (Int32 × Int32 × MS)) :=
  if 20 < (m_I σ 59) then
  some (.inr (x3, x4, σ))
else
  ob_ (X4_goesThrough σ) fun σ10 =>
    ob_ (X4_isAsSeen σ10) fun r12 =>
    if r12 = 0 then
    X4_fits_j99 x1 x2 x3 x4 x5 σ10
  else
    if x4 = (-1) then
      X4_fits_j99 x1 x2 (x3 + 1) ((100 * (x5 + 1)) + (m_I σ10 59)) x5 σ10
    else
      X4_fits_j99 x1 x2 (x3 + 1) x4 x5 σ10
def X4_fits_b31 (x1 : Int32) (x2 : Int32) (x3 : Int32) (x4 : Int32) (x5 : Int32) (σ : MS) : Option ((Int32 × Int32 × Int32 × MS) ⊕ (Int32 × Int32 × MS)) :=
  if (m_I σ 5) ≤ x5 then
  some (.inr (x3, x4, σ))
else
  in_ 5 12 <|
    ob_ (lp_ (fun a => X4_fits_b53 x1 x2 x5 a.1 a.2.1 a.2.2) fu_ (x3, x4, s_I (s_A σ 53 ((5 : Int32).toNatClampNeg) x5) 59 0)) fun e15 =>
    some (.inl (e15.1, e15.2.1, x5 + 1, e15.2.2))
/-- RingHandModel.fits(I)I -/
def X4_fits (x1 : Int32) (σ : MS) : Option (Int32 × MS) :=
  cb_ (X4_isWhat x1 1 (s_I σ 0 0)) fun r2 σ3 =>
  if r2 = 0 then
  some (0, σ3)
else
  in_ 5 12 <|
    ob_ (lp_ (fun a => X4_fits_b31 x1 (m_A σ3 53 ((5 : Int32).toNatClampNeg)) a.1 a.2.1 a.2.2.1 a.2.2.2) fu_ (0, (-1), (-1), σ3)) fun e16 =>
    in_ 5 12 <|
    if x1 = 0 then
    some (e16.1, s_A (s_I e16.2.2 59 0) 53 ((5 : Int32).toNatClampNeg) (m_A σ3 53 ((5 : Int32).toNatClampNeg)))
  else
    some (e16.2.1, s_A (s_I e16.2.2 59 0) 53 ((5 : Int32).toNatClampNeg) (m_A σ3 53 ((5 : Int32).toNatClampNeg)))
def X4_book_j26 (σ : MS) : Option (Int32 × MS) :=
  cb_ (X4_refuses 2 (-1) σ) fun r3 σ4 =>
  some (r3, σ4)
/-- RingHandModel.book(I)I -/
def X4_book (x1 : Int32) (σ : MS) : Option (Int32 × MS) :=
  if (m_I σ 76) = 16 then
  X4_book_j26 (s_I σ 0 0)
else
  ob_ (X4_within x1 12 480) fun r5 =>
    if r5 = 0 then
    X4_book_j26 (s_I σ 0 0)
  else
    in_ (m_I σ 76) 16 <|
      some ((m_I σ 76) + 1, s_I (s_A (s_I σ 0 0) 77 ((m_I σ 76).toNatClampNeg) x1) 76 ((m_I σ 76) + 1))
def X4_portion_b5 (x0 : Int32) (x1 : Int32) (x2 : Int32) (x3 : Int32) (x4 : Int32) : Option ((Int32 × Int32) ⊕ (Int32)) :=
  if x4 = 0 then
  some (.inr x3)
else
  dv_ x4 <|
    some (.inl (x4, x3 - x3 / x4 * x4))
/-- RingHandModel.portion(III)I -/
def X4_portion (x0 : Int32) (x1 : Int32) (x2 : Int32) : Option (Int32) :=
  ob_ (lp_ (fun a => X4_portion_b5 x0 x1 x2 a.1 a.2) fu_ (x1, x0)) fun e3 =>
  if x2 = 0 then
  dv_ e3 <|
    some (x0 / e3)
else
  dv_ e3 <|
    some (x1 / e3)
def X4_next_j47 (x1 : Int32) (x2 : Int32) (x4 : Int32) (t0 : Int32) (t1 : Int32) (σ : MS) : Option ((Int32 × Int32) ⊕ (Int32)) :=
  some (.inl (t0 + t1, x4 + 1))
def X4_next_b21 (x1 : Int32) (x2 : Int32) (σ : MS) (x3 : Int32) (x4 : Int32) : Option ((Int32 × Int32) ⊕ (Int32)) :=
  if (m_I σ 76) ≤ x4 then
  some (.inr x3)
else
  in_ x4 16 <|
    if x1 < (m_A σ 77 x4.toNatClampNeg) then
    X4_next_j47 x1 x2 x4 x3 0 σ
  else
    X4_next_j47 x1 x2 x4 x3 1 σ
def X4_next_j71 (x2 : Int32) (t0 : Int32) (t1 : Int32) (σ : MS) : Option (Int32 × MS) :=
  ob_ (X4_portion t0 t1 x2) fun r10 =>
  some (r10, σ)
/-- RingHandModel.next(II)I -/
def X4_next (x1 : Int32) (x2 : Int32) (σ : MS) : Option (Int32 × MS) :=
  cb_ (X4_isWhat x2 1 (s_I σ 0 0)) fun r2 σ3 =>
  if r2 = 0 then
  some (0, σ3)
else
  ob_ (lp_ (fun a => X4_next_b21 x1 x2 σ3 a.1 a.2) fu_ (0, 0)) fun e8 =>
    if (m_I σ3 76) = 0 then
    X4_next_j71 x2 e8 1 σ3
  else
    X4_next_j71 x2 e8 (m_I σ3 76) σ3
def X4_middle_j102 (x1 : Int32) (x2 : Int32) (x3 : Int32) (x5 : Int32) (t0 : Int32) (σ : MS) : Option ((Int32 × Int32 × Int32 × Int32) ⊕ (Int32 × Int32 × Int32)) :=
  some (.inl (x2, x3, t0, x5 + 1))
def X4_middle_j90 (x1 : Int32) (x2 : Int32) (x3 : Int32) (x5 : Int32) (σ : MS) : Option ((Int32 × Int32 × Int32 × Int32) ⊕ (Int32 × Int32 × Int32)) :=
  in_ x5 16 <|
  X4_middle_j102 x1 x2 x3 x5 (m_A σ 77 x5.toNatClampNeg) σ
def X4_middle_j72 (x1 : Int32) (x2 : Int32) (x4 : Int32) (x5 : Int32) (t0 : Int32) (σ : MS) : Option ((Int32 × Int32 × Int32 × Int32) ⊕ (Int32 × Int32 × Int32)) :=
  if x5 = 0 then
  X4_middle_j90 x1 x2 t0 x5 σ
else
  in_ x5 16 <|
    if x4 ≤ (m_A σ 77 x5.toNatClampNeg) then
    X4_middle_j102 x1 x2 t0 x5 x4 σ
  else
    X4_middle_j90 x1 x2 t0 x5 σ
def X4_middle_j61 (x1 : Int32) (x2 : Int32) (x4 : Int32) (x5 : Int32) (σ : MS) : Option ((Int32 × Int32 × Int32 × Int32) ⊕ (Int32 × Int32 × Int32)) :=
  in_ x5 16 <|
  X4_middle_j72 x1 x2 x4 x5 (m_A σ 77 x5.toNatClampNeg) σ
def X4_middle_b26 (x1 : Int32) (σ : MS) (x2 : Int32) (x3 : Int32) (x4 : Int32) (x5 : Int32) : Option ((Int32 × Int32 × Int32 × Int32) ⊕ (Int32 × Int32 × Int32)) :=
  if (m_I σ 76) ≤ x5 then
  some (.inr (x2, x3, x4))
else
  in_ x5 16 <|
    if x5 = 0 then
    X4_middle_j61 x1 (x2 + (m_A σ 77 x5.toNatClampNeg)) x4 x5 σ
  else
    in_ x5 16 <|
      if (m_A σ 77 x5.toNatClampNeg) ≤ x3 then
      X4_middle_j72 x1 (x2 + (m_A σ 77 x5.toNatClampNeg)) x4 x5 x3 σ
    else
      X4_middle_j61 x1 (x2 + (m_A σ 77 x5.toNatClampNeg)) x4 x5 σ
def X4_middle_j138 (x1 : Int32) (t0 : Int32) (t1 : Int32) (σ : MS) : Option (Int32 × MS) :=
  ob_ (X4_portion t0 t1 x1) fun r18 =>
  some (r18, σ)
/-- RingHandModel.middle(I)I -/
def X4_middle (x1 : Int32) (σ : MS) : Option (Int32 × MS) :=
  cb_ (X4_isWhat x1 2 (s_I σ 0 0)) fun r2 σ3 =>
  if r2 = 0 then
  some (0, σ3)
else
  ob_ (lp_ (fun a => X4_middle_b26 x1 σ3 a.1 a.2.1 a.2.2.1 a.2.2.2) fu_ (0, 0, 0, 0)) fun e15 =>
    if x1 = 2 then
    some (e15.2.1 - e15.2.2, σ3)
  else
    if (m_I σ3 76) = 0 then
      X4_middle_j138 x1 e15.1 1 σ3
    else
      X4_middle_j138 x1 e15.1 (m_I σ3 76) σ3
/-- RingHandModel.forget()V -/
def X4_forget (σ : MS) : Option (MS) :=
  some (s_I (s_I (s_I σ 0 0) 74 0) 76 0)
/-- RingHandModel.image()V -/
def X4_image (σ : MS) : Option (MS) :=
  ob_ (X4_copies 53 82 (s_I (s_I (s_I (s_I (s_I σ 0 0) 78 1) 79 (m_I σ 56)) 80 (m_I σ 74)) 81 (m_I σ 76))) fun σ2 =>
  ob_ (X4_copies 55 83 σ2) fun σ4 =>
  ob_ (X4_copies 75 84 σ4) fun σ6 =>
  ob_ (X4_copies 77 85 σ6) fun σ8 =>
  some σ8
/-- RingHandModel.restore()Z -/
def X4_restore (σ : MS) : Option (Int32 × MS) :=
  if (m_I σ 78) = 0 then
  some (0, s_I σ 0 0)
else
  ob_ (X4_copies 82 53 (s_I (s_I (s_I (s_I σ 0 0) 56 (m_I σ 79)) 74 (m_I σ 80)) 76 (m_I σ 81))) fun σ3 =>
    ob_ (X4_copies 83 55 σ3) fun σ5 =>
    ob_ (X4_copies 84 75 σ5) fun σ7 =>
    ob_ (X4_copies 85 77 σ7) fun σ9 =>
    some (1, σ9)
end
section
/-! PURE, printed out of the bytecode by wip/D-98610w/gen/comp.py -/
set_option maxRecDepth 100000

/-- java/util/ArrayList.size()I -/
def J2_size (a0 : Nat) (g : GS) : Option (Int32) :=
  wk_ g a0 12 <|
  some (gI g a0 2)
def J11_checkIndex_j9 (x0 : Int32) (x1 : Int32) (x2 : Nat) (g : GS) : Option (Int32) :=
  none
/-- jdk/internal/util/Preconditions.checkIndex(IILjava/util/function/BiFunction;)I -/
def J11_checkIndex (x0 : Int32) (x1 : Int32) (x2 : Nat) (g : GS) : Option (Int32) :=
  if x0 < 0 then
  J11_checkIndex_j9 x0 x1 x2 g
else
  if x0 < x1 then
    some x0
  else
    J11_checkIndex_j9 x0 x1 x2 g
/-- java/util/Objects.checkIndex(II)I -/
def J17_checkIndex (x0 : Int32) (x1 : Int32) (g : GS) : Option (Int32) :=
  ob_ (J11_checkIndex x0 x1 0 g) fun r2 =>
  some r2
/-- java/util/ArrayList.elementData(I)Ljava/lang/Object; -/
def J2_elementData (a0 : Nat) (x1 : Int32) (g : GS) : Option (Nat) :=
  wk_ g a0 12 <|
  nn_ (gR g a0 1) fun b2 =>
  rk_ g b2 103 <|
  in_ x1 (gN g b2) <|
  nn_ (gR g b2 x1.toNatClampNeg) fun b6 =>
  some b6
/-- java/util/ArrayList.get(I)Ljava/lang/Object; -/
def J2_get (a0 : Nat) (x1 : Int32) (g : GS) : Option (Nat) :=
  wk_ g a0 12 <|
  ob_ (J17_checkIndex x1 (gI g a0 2) g) fun r3 =>
  ob_ (J2_elementData a0 x1 g) fun r5 =>
  some r5
def J15_newLength_j21 (x0 : Int32) (x1 : Int32) : Option (Int32) :=
  none
/-- jdk/internal/util/ArraysSupport.newLength(III)I -/
def J15_newLength (x0 : Int32) (x1 : Int32) (x2 : Int32) : Option (Int32) :=
  if (x0 + (jmax_ x1 x2)) ≤ (0 : Int32) then
  J15_newLength_j21 x0 x1
else
  if 2147483639 < (x0 + (jmax_ x1 x2)) then
    J15_newLength_j21 x0 x1
  else
    some (x0 + (jmax_ x1 x2))
def J16_copyOf_2_j24 (a0 : Nat) (x1 : Int32) (t0 : Nat) (g : GS) : Option ((Nat × GS) × Nat × Nat) :=
  rk_ g a0 103 <|
  wk_ g t0 103 <|
  gd_ (acR_ g a0 0 t0 0 (jmin_ (Int32.ofNat (gN g a0)) x1)) <|
  some ((t0, cR_ g a0 (0 : Int32).toNatClampNeg t0 (0 : Int32).toNatClampNeg (jmin_ (Int32.ofNat (gN g a0)) x1).toNatClampNeg), 0, 0)
/-- java/util/Arrays.copyOf([Ljava/lang/Object;ILjava/lang/Class;)[Ljava/lang/Object; -/
def J16_copyOf_2 (a0 : Nat) (x1 : Int32) (a2 : Nat) (g : GS) : Option ((Nat × GS) × Nat × Nat) :=
  if a2 = (gS g 8) then
  na_ x1 <|
    al_ g 103 x1.toNatClampNeg fun u2 g3 =>
    J16_copyOf_2_j24 a0 x1 u2 g3
else
  none
/-- java/util/Arrays.copyOf([Ljava/lang/Object;I)[Ljava/lang/Object; -/
def J16_copyOf (a0 : Nat) (x1 : Int32) (g : GS) : Option ((Nat × GS) × Nat × Nat) :=
  rk_ g a0 103 <|
  ca_ (J16_copyOf_2 a0 x1 (gS g 8) g) fun r4 g3 =>
  some ((r4, g3), 0, 0)
def J2_grow_2_j20 (a0 : Nat) (x1 : Int32) (x2 : Int32) (g : GS) : Option ((Nat × GS) × Nat × Nat) :=
  ob_ (J15_newLength x2 (x1 - x2) (x2 >>> ((1 : Int32) &&& 31))) fun r7 =>
  wk_ g a0 12 <|
  nn_ (gR g a0 1) fun b9 =>
  ca_ (J16_copyOf b9 r7 g) fun r13 g12 =>
  wk_ g12 a0 12 <|
  some ((r13, pR g12 a0 1 (r13 + 1)), 0, 0)
/-- java/util/ArrayList.grow(I)[Ljava/lang/Object; -/
def J2_grow_2 (a0 : Nat) (x1 : Int32) (g : GS) : Option ((Nat × GS) × Nat × Nat) :=
  wk_ g a0 12 <|
  nn_ (gR g a0 1) fun b2 =>
  rk_ g b2 103 <|
  if 0 < (Int32.ofNat (gN g b2)) then
  J2_grow_2_j20 a0 x1 (Int32.ofNat (gN g b2)) g
else
  nn_ (gR g a0 1) fun b17 =>
    nn_ (gS g 1) fun b19 =>
    if b17 = b19 then
    na_ (jmax_ 10 x1) <|
      al_ g 103 ((jmax_ 10 x1).toNatClampNeg) fun u22 g23 =>
      wk_ g23 a0 12 <|
      some ((u22, pR g23 a0 1 (u22 + 1)), 0, 0)
  else
    J2_grow_2_j20 a0 x1 (Int32.ofNat (gN g b2)) g
/-- java/util/ArrayList.grow()[Ljava/lang/Object; -/
def J2_grow (a0 : Nat) (g : GS) : Option ((Nat × GS) × Nat × Nat) :=
  wk_ g a0 12 <|
  ca_ (J2_grow_2 a0 ((gI g a0 2) + 1) g) fun r4 g3 =>
  some ((r4, g3), 0, 0)
def J2_add_2_j11 (a0 : Nat) (a1 : Nat) (a2 : Nat) (x3 : Int32) (g : GS) : Option ((Unit × GS) × Nat × Nat) :=
  wk_ g a2 103 <|
  in_ x3 (gN g a2) <|
  gd_ (g_sto (gK g a1 % 1000)) <|
  wk_ (pR g a2 x3.toNatClampNeg (a1 + 1)) a0 12 <|
  some (((), pI (pR g a2 x3.toNatClampNeg (a1 + 1)) a0 2 (x3 + 1)), 0, 0)
/-- java/util/ArrayList.add(Ljava/lang/Object;[Ljava/lang/Object;I)V -/
def J2_add_2 (a0 : Nat) (a1 : Nat) (a2 : Nat) (x3 : Int32) (g : GS) : Option ((Unit × GS) × Nat × Nat) :=
  rk_ g a2 103 <|
  if x3 = (Int32.ofNat (gN g a2)) then
  wk_ g a0 12 <|
    ca_ (J2_grow a0 g) fun r10 g9 =>
    J2_add_2_j11 a0 a1 r10 x3 g9
else
  J2_add_2_j11 a0 a1 a2 x3 g
/-- java/util/ArrayList.add(Ljava/lang/Object;)Z -/
def J2_add (a0 : Nat) (a1 : Nat) (g : GS) : Option ((Int32 × GS) × Nat × Nat) :=
  wk_ g a0 12 <|
  nn_ (gR (pI g a0 0 ((gI g a0 0) + 1)) a0 1) fun b2 =>
  ca_ (J2_add_2 a0 a1 b2 (gI (pI g a0 0 ((gI g a0 0) + 1)) a0 2) (pI g a0 0 ((gI g a0 0) + 1))) fun r6 g5 =>
  some ((1, g5), 0, 0)
/-- java/util/ArrayList.isEmpty()Z -/
def J2_isEmpty (a0 : Nat) (g : GS) : Option (Int32) :=
  wk_ g a0 12 <|
  if (gI g a0 2) = 0 then
  some 1
else
  some 0
/-- java/util/ArrayList.set(ILjava/lang/Object;)Ljava/lang/Object; -/
def J2_set (a0 : Nat) (x1 : Int32) (a2 : Nat) (g : GS) : Option (Nat × GS) :=
  wk_ g a0 12 <|
  ob_ (J17_checkIndex x1 (gI g a0 2) g) fun r3 =>
  ob_ (J2_elementData a0 x1 g) fun r5 =>
  nn_ (gR g a0 1) fun b6 =>
  wk_ g b6 103 <|
  in_ x1 (gN g b6) <|
  gd_ (g_sto (gK g a2 % 1000)) <|
  some (r5, pR g b6 x1.toNatClampNeg (a2 + 1))
def J2_clear_b27 (a1 : Nat) (x2 : Int32) (x3 : Int32) (g : GS) : Option ((Int32 × GS) ⊕ (GS)) :=
  if x2 ≤ x3 then
  some (.inr g)
else
  wk_ g a1 103 <|
    in_ x3 (gN g a1) <|
    some (.inl (x3 + 1, pR g a1 x3.toNatClampNeg 0))
/-- java/util/ArrayList.clear()V -/
def J2_clear (a0 : Nat) (g : GS) : Option (GS) :=
  wk_ g a0 12 <|
  nn_ (gR (pI g a0 0 ((gI g a0 0) + 1)) a0 1) fun b2 =>
  ob_ (lp_ (fun a => J2_clear_b27 b2 (gI (pI g a0 0 ((gI g a0 0) + 1)) a0 2) a.1 a.2) fu_ (0, pI (pI g a0 0 ((gI g a0 0) + 1)) a0 2 0)) fun e7 =>
  some e7
def J2_fastRemove_j34 (a0 : Nat) (a1 : Nat) (x3 : Int32) (g : GS) : Option (GS) :=
  wk_ g a0 12 <|
  wk_ (pI g a0 2 x3) a1 103 <|
  in_ x3 (gN (pI g a0 2 x3) a1) <|
  some (pR (pI g a0 2 x3) a1 x3.toNatClampNeg 0)
/-- java/util/ArrayList.fastRemove([Ljava/lang/Object;I)V -/
def J2_fastRemove (a0 : Nat) (a1 : Nat) (x2 : Int32) (g : GS) : Option (GS) :=
  wk_ g a0 12 <|
  if ((gI (pI g a0 0 ((gI g a0 0) + 1)) a0 2) - 1) ≤ x2 then
  J2_fastRemove_j34 a0 a1 ((gI (pI g a0 0 ((gI g a0 0) + 1)) a0 2) - 1) (pI g a0 0 ((gI g a0 0) + 1))
else
  rk_ (pI g a0 0 ((gI g a0 0) + 1)) a1 103 <|
    wk_ (pI g a0 0 ((gI g a0 0) + 1)) a1 103 <|
    gd_ (acR_ (pI g a0 0 ((gI g a0 0) + 1)) a1 (x2 + 1) a1 x2 (((gI (pI g a0 0 ((gI g a0 0) + 1)) a0 2) - 1) - x2)) <|
    J2_fastRemove_j34 a0 a1 ((gI (pI g a0 0 ((gI g a0 0) + 1)) a0 2) - 1) (cR_ (pI g a0 0 ((gI g a0 0) + 1)) a1 (x2 + 1).toNatClampNeg a1 x2.toNatClampNeg (((gI (pI g a0 0 ((gI g a0 0) + 1)) a0 2) - 1) - x2).toNatClampNeg)
/-- java/util/ArrayList.remove(I)Ljava/lang/Object; -/
def J2_remove (a0 : Nat) (x1 : Int32) (g : GS) : Option (Nat × GS) :=
  wk_ g a0 12 <|
  ob_ (J17_checkIndex x1 (gI g a0 2) g) fun r3 =>
  nn_ (gR g a0 1) fun b4 =>
  rk_ g b4 103 <|
  in_ x1 (gN g b4) <|
  nn_ (gR g b4 x1.toNatClampNeg) fun b8 =>
  ob_ (J2_fastRemove a0 b4 x1 g) fun g11 =>
  some (b8, g11)
/-- java/util/AbstractCollection.<init>()V -/
def J0_init (a0 : Nat) (g : GS) : Option (Unit) :=
  some ()
/-- java/util/AbstractList.<init>()V -/
def J1_init (a0 : Nat) (g : GS) : Option (GS) :=
  ob_ (J0_init a0 g) fun r2 =>
  wk_ g a0 12 <|
  some (pI g a0 0 0)
/-- java/util/ArrayList.<init>()V -/
def J2_init (a0 : Nat) (g : GS) : Option (GS) :=
  ob_ (J1_init a0 g) fun g2 =>
  nn_ (gS g2 1) fun b3 =>
  wk_ g2 a0 12 <|
  some (pR g2 a0 1 (b3 + 1))
/-- java/lang/Integer.intValue()I -/
def J19_intValue (a0 : Nat) (g : GS) : Option (Int32) :=
  rk_ g a0 14 <|
  some (gI g a0 0)
/-- java/lang/Integer.equals(Ljava/lang/Object;)Z -/
def J19_equals (a0 : Nat) (a1 : Nat) (g : GS) : Option (Int32) :=
  rk_ g a1 14 <|
  if (1 : Int32) = 0 then
  some 0
else
  rk_ g a0 14 <|
    ob_ (J19_intValue a1 g) fun r5 =>
    if (gI g a0 0) = r5 then
    some 1
  else
    some 0
def J2_indexOfRange_b42 (a1 : Nat) (x3 : Int32) (a4 : Nat) (g : GS) (x5 : Int32) : Option ((Int32) ⊕ (((Int32) ⊕ (Unit)))) :=
  if x3 ≤ x5 then
  some (.inr (.inr ()))
else
  rk_ g a4 103 <|
    in_ x5 (gN g a4) <|
    nn_ (gR g a4 x5.toNatClampNeg) fun b7 =>
    rk_ g a1 14 <|
    ob_ (J19_equals a1 b7 g) fun r11 =>
    if r11 = 0 then
    some (.inl (x5 + 1))
  else
    some (.inr (.inl x5))
/-- java/util/ArrayList.indexOfRange(Ljava/lang/Object;II)I -/
def J2_indexOfRange (a0 : Nat) (a1 : Nat) (x2 : Int32) (x3 : Int32) (g : GS) : Option (Int32) :=
  wk_ g a0 12 <|
  nn_ (gR g a0 1) fun b2 =>
  ob_ (lp_ (fun a => J2_indexOfRange_b42 a1 x3 b2 g a) fu_ x2) fun e13 =>
  Sum.elim (fun e13a => some e13a) (fun e13b => some (-1)) e13
/-- java/util/ArrayList.indexOf(Ljava/lang/Object;)I -/
def J2_indexOf (a0 : Nat) (a1 : Nat) (g : GS) : Option (Int32) :=
  wk_ g a0 12 <|
  ob_ (J2_indexOfRange a0 a1 0 (gI g a0 2) g) fun r3 =>
  some r3
/-- java/util/ArrayList.contains(Ljava/lang/Object;)Z -/
def J2_contains (a0 : Nat) (a1 : Nat) (g : GS) : Option (Int32) :=
  wk_ g a0 12 <|
  ob_ (J2_indexOf a0 a1 g) fun r3 =>
  if r3 < 0 then
  some 0
else
  some 1
/-- java/util/ArrayList.toArray()[Ljava/lang/Object; -/
def J2_toArray (a0 : Nat) (g : GS) : Option ((Nat × GS) × Nat × Nat) :=
  wk_ g a0 12 <|
  nn_ (gR g a0 1) fun b2 =>
  ca_ (J16_copyOf b2 (gI g a0 2) g) fun r6 g5 =>
  some ((r6, g5), 0, 0)
/-- java/util/ArrayList.<init>(Ljava/util/Collection;)V -/
def J2_init_2 (a0 : Nat) (a1 : Nat) (g : GS) : Option ((Unit × GS) × Nat × Nat) :=
  ob_ (J1_init a0 g) fun g2 =>
  wk_ g2 a1 12 <|
  ca_ (J2_toArray a1 g2) fun r6 g5 =>
  rk_ g5 r6 103 <|
  wk_ g5 a0 12 <|
  if (Int32.ofNat (gN g5 r6)) = 0 then
  nn_ (gS (pI g5 a0 2 (Int32.ofNat (gN g5 r6))) 2) fun b12 =>
    some (((), pR (pI g5 a0 2 (Int32.ofNat (gN g5 r6))) a0 1 (b12 + 1)), 0, 0)
else
  wk_ (pI g5 a0 2 (Int32.ofNat (gN g5 r6))) a1 12 <|
    if (gS (pI g5 a0 2 (Int32.ofNat (gN g5 r6))) 9) = (gS (pI g5 a0 2 (Int32.ofNat (gN g5 r6))) 9) then
    some (((), pR (pI g5 a0 2 (Int32.ofNat (gN g5 r6))) a0 1 (r6 + 1)), 0, 0)
  else
    ca_ (J16_copyOf_2 r6 (gI (pI g5 a0 2 (Int32.ofNat (gN g5 r6))) a0 2) (gS (pI g5 a0 2 (Int32.ofNat (gN g5 r6))) 8) (pI g5 a0 2 (Int32.ofNat (gN g5 r6)))) fun r18 g17 =>
      wk_ g17 a0 12 <|
      some (((), pR g17 a0 1 (r18 + 1)), 0, 0)
/-- java/lang/Number.<init>()V -/
def J18_init (a0 : Nat) (g : GS) : Option (Unit) :=
  some ()
/-- java/lang/Integer.<init>(I)V -/
def J19_init (a0 : Nat) (x1 : Int32) (g : GS) : Option (GS) :=
  ob_ (J18_init a0 g) fun r2 =>
  wk_ g a0 14 <|
  some (pI g a0 0 x1)
def J19_valueOf_j23 (x0 : Int32) (g : GS) : Option ((Nat × GS) × Nat × Nat) :=
  al_ g 14 1 fun u2 g3 =>
  ob_ (J19_init u2 x0 g3) fun g7 =>
  some ((u2, g7), 0, 0)
/-- java/lang/Integer.valueOf(I)Ljava/lang/Integer; -/
def J19_valueOf (x0 : Int32) (g : GS) : Option ((Nat × GS) × Nat × Nat) :=
  if x0 < (-128) then
  J19_valueOf_j23 x0 g
else
  if 127 < x0 then
    J19_valueOf_j23 x0 g
  else
    nn_ (gS g 0) fun b9 =>
      rk_ g b9 105 <|
      in_ (x0 + 128) (gN g b9) <|
      nn_ (gR g b9 (x0 + 128).toNatClampNeg) fun b13 =>
      some ((b13, g), 0, 0)
/-- java/lang/Integer.signum(I)I -/
def J19_signum (x0 : Int32) : Option (Int32) :=
  some ((x0 >>> ((31 : Int32) &&& 31)) ||| (((-x0).toUInt32 >>> ((31 : Int32).toUInt32 &&& Int32.toUInt32 31)).toInt32))
/-- java/lang/AbstractStringBuilder.<init>(I)V -/
def J13_init (a0 : Nat) (x1 : Int32) (g : GS) : Option ((Unit × GS) × Nat × Nat) :=
  if (1 : Int32) = 0 then
  none
else
  na_ x1 <|
    al_ g 101 x1.toNatClampNeg fun u2 g3 =>
    wk_ g3 a0 13 <|
    some (((), pI (pR g3 a0 0 (u2 + 1)) a0 1 0), 0, 0)
/-- java/lang/StringBuilder.<init>()V -/
def J14_init (a0 : Nat) (g : GS) : Option ((Unit × GS) × Nat × Nat) :=
  ca_ (J13_init a0 16 g) fun r3 g2 =>
  some (((), g2), 0, 0)
/-- java/lang/AbstractStringBuilder.newCapacity(I)I -/
def J13_newCapacity (a0 : Nat) (x1 : Int32) (g : GS) : Option ((Int32 × GS) × Nat × Nat) :=
  wk_ g a0 13 <|
  nn_ (gR g a0 0) fun b2 =>
  rk_ g b2 101 <|
  ob_ (J15_newLength (Int32.ofNat (gN g b2)) ((x1 <<< ((gI g a0 1) &&& 31)) - (Int32.ofNat (gN g b2))) ((Int32.ofNat (gN g b2)) + (2 <<< ((gI g a0 1) &&& 31)))) fun r6 =>
  if r6 = 2147483647 then
  none
else
  some ((r6 >>> ((gI g a0 1) &&& 31), g), 0, 0)
/-- java/util/Arrays.copyOf([BI)[B -/
def J16_copyOf_3 (a0 : Nat) (x1 : Int32) (g : GS) : Option ((Nat × GS) × Nat × Nat) :=
  rk_ g a0 101 <|
  if x1 = (Int32.ofNat (gN g a0)) then
  none
else
  na_ x1 <|
    al_ g 101 x1.toNatClampNeg fun u3 g4 =>
    rk_ g4 a0 101 <|
    gd_ (acB_ g4 a0 0 u3 0 (jmin_ (Int32.ofNat (gN g4 a0)) x1)) <|
    some ((u3, cI_ g4 a0 (0 : Int32).toNatClampNeg u3 (0 : Int32).toNatClampNeg (jmin_ (Int32.ofNat (gN g4 a0)) x1).toNatClampNeg), 0, 0)
/-- java/lang/AbstractStringBuilder.ensureCapacityInternal(I)V -/
def J13_ensureCapacityInternal (a0 : Nat) (x1 : Int32) (g : GS) : Option ((Unit × GS) × Nat × Nat) :=
  wk_ g a0 13 <|
  nn_ (gR g a0 0) fun b2 =>
  rk_ g b2 101 <|
  if (x1 - ((Int32.ofNat (gN g b2)) >>> ((gI g a0 1) &&& 31))) ≤ 0 then
  some (((), g), 0, 0)
else
  nn_ (gR g a0 0) fun b6 =>
    ca_ (J13_newCapacity a0 x1 g) fun r10 g9 =>
    wk_ g9 a0 13 <|
    ca_ (J16_copyOf_3 b6 (r10 <<< ((gI g9 a0 1) &&& 31)) g9) fun r16 g15 =>
    wk_ g15 a0 13 <|
    some (((), pR g15 a0 0 (r16 + 1)), 0, 0)
/-- java/lang/AbstractStringBuilder.isLatin1()Z -/
def J13_isLatin1 (a0 : Nat) (g : GS) : Option (Int32) :=
  if (1 : Int32) = 0 then
  some 0
else
  wk_ g a0 13 <|
    if (gI g a0 1) = 0 then
    some 1
  else
    some 0
/-- java/lang/StringLatin1.canEncode(C)Z -/
def J9_canEncode_2 (x0 : Int32) : Option (Int32) :=
  if 255 < x0 then
  some 0
else
  some 1
def J13_append_j56 (a0 : Nat) (x1 : Int32) (g : GS) : Option ((Nat × GS) × Nat × Nat) :=
  wk_ g a0 13 <|
  nn_ (gR g a0 0) fun b16 =>
  none
def J13_append_j45 (a0 : Nat) (x1 : Int32) (g : GS) : Option ((Nat × GS) × Nat × Nat) :=
  wk_ g a0 13 <|
  ob_ (J13_isLatin1 a0 g) fun r13 =>
  if r13 = 0 then
  J13_append_j56 a0 x1 g
else
  none
/-- java/lang/AbstractStringBuilder.append(C)Ljava/lang/AbstractStringBuilder; -/
def J13_append (a0 : Nat) (x1 : Int32) (g : GS) : Option ((Nat × GS) × Nat × Nat) :=
  wk_ g a0 13 <|
  ca_ (J13_ensureCapacityInternal a0 ((gI g a0 3) + 1) g) fun r4 g3 =>
  wk_ g3 a0 13 <|
  ob_ (J13_isLatin1 a0 g3) fun r9 =>
  if r9 = 0 then
  J13_append_j45 a0 x1 g3
else
  ob_ (J9_canEncode_2 x1) fun r19 =>
    if r19 = 0 then
    J13_append_j45 a0 x1 g3
  else
    nn_ (gR g3 a0 0) fun b21 =>
      wk_ (pI g3 a0 3 ((gI g3 a0 3) + 1)) b21 101 <|
      in_ (gI g3 a0 3) (gN (pI g3 a0 3 ((gI g3 a0 3) + 1)) b21) <|
      some ((a0, pI (pI g3 a0 3 ((gI g3 a0 3) + 1)) b21 (gI g3 a0 3).toNatClampNeg x1.toInt8.toInt32.toInt8.toInt32), 0, 0)
/-- java/lang/StringBuilder.append(C)Ljava/lang/StringBuilder; -/
def J14_append (a0 : Nat) (x1 : Int32) (g : GS) : Option ((Nat × GS) × Nat × Nat) :=
  wk_ g a0 13 <|
  ca_ (J13_append a0 x1 g) fun r4 g3 =>
  some ((a0, g3), 0, 0)
/-- java/lang/String.checkIndex(II)V -/
def J8_checkIndex (x0 : Int32) (x1 : Int32) (g : GS) : Option (Unit) :=
  nn_ (gS g 5) fun b1 =>
  ob_ (J11_checkIndex x0 x1 (b1 + 1) g) fun r4 =>
  some ()
/-- java/lang/AbstractStringBuilder.charAt(I)C -/
def J13_charAt (a0 : Nat) (x1 : Int32) (g : GS) : Option (Int32) :=
  wk_ g a0 13 <|
  nn_ (gR g a0 0) fun b2 =>
  rk_ g b2 101 <|
  ob_ (J8_checkIndex x1 (jmin_ (gI g a0 3) ((Int32.ofNat (gN g b2)) >>> ((gI g a0 1) &&& 31))) g) fun r6 =>
  if (gI g a0 1) = 0 then
  in_ x1 (gN g b2) <|
    some (zc_ ((((gI g b2 x1.toNatClampNeg) &&& 255).toUInt32 % 65536).toInt32))
else
  none
/-- java/lang/StringBuilder.charAt(I)C -/
def J14_charAt (a0 : Nat) (x1 : Int32) (g : GS) : Option (Int32) :=
  wk_ g a0 13 <|
  ob_ (J13_charAt a0 x1 g) fun r3 =>
  some (zc_ r3)
/-- java/lang/String.coder()B -/
def J8_coder (a0 : Nat) (g : GS) : Option (Int32) :=
  if (1 : Int32) = 0 then
  some 1
else
  rk_ g a0 200 <|
    some (zy_ (gI g a0 1))
/-- java/lang/String.length()I -/
def J8_length (a0 : Nat) (g : GS) : Option (Int32) :=
  rk_ g a0 200 <|
  nn_ (gR g a0 0) fun b2 =>
  rk_ g b2 101 <|
  ob_ (J8_coder a0 g) fun r6 =>
  some ((Int32.ofNat (gN g b2)) >>> (r6 &&& 31))
/-- java/lang/String.isLatin1()Z -/
def J8_isLatin1 (a0 : Nat) (g : GS) : Option (Int32) :=
  if (1 : Int32) = 0 then
  some 0
else
  rk_ g a0 200 <|
    if (gI g a0 1) = 0 then
    some 1
  else
    some 0
/-- java/lang/StringLatin1.charAt([BI)C -/
def J9_charAt (a0 : Nat) (x1 : Int32) (g : GS) : Option (Int32) :=
  rk_ g a0 101 <|
  ob_ (J8_checkIndex x1 (Int32.ofNat (gN g a0)) g) fun r3 =>
  in_ x1 (gN g a0) <|
  some (zc_ ((((gI g a0 x1.toNatClampNeg) &&& 255).toUInt32 % 65536).toInt32))
/-- java/lang/String.charAt(I)C -/
def J8_charAt (a0 : Nat) (x1 : Int32) (g : GS) : Option (Int32) :=
  rk_ g a0 200 <|
  ob_ (J8_isLatin1 a0 g) fun r3 =>
  if r3 = 0 then
  nn_ (gR g a0 0) fun b5 =>
    none
else
  nn_ (gR g a0 0) fun b7 =>
    ob_ (J9_charAt b7 x1 g) fun r10 =>
    some (zc_ r10)
/-- java/lang/StringLatin1.canEncode(I)Z -/
def J9_canEncode (x0 : Int32) : Option (Int32) :=
  if x0 < 0 then
  some 0
else
  if 255 < x0 then
    some 0
  else
    some 1
def J9_indexOfChar_b7 (a0 : Nat) (x3 : Int32) (x4 : Int32) (g : GS) (x5 : Int32) : Option ((Int32) ⊕ (((Int32) ⊕ (Unit)))) :=
  if x3 ≤ x5 then
  some (.inr (.inr ()))
else
  rk_ g a0 101 <|
    in_ x5 (gN g a0) <|
    if (gI g a0 x5.toNatClampNeg) = x4 then
    some (.inr (.inl x5))
  else
    some (.inl (x5 + 1))
/-- java/lang/StringLatin1.indexOfChar([BIII)I -/
def J9_indexOfChar (a0 : Nat) (x1 : Int32) (x2 : Int32) (x3 : Int32) (g : GS) : Option (Int32) :=
  ob_ (lp_ (fun a => J9_indexOfChar_b7 a0 x3 x1.toInt8.toInt32 g a) fu_ x2) fun e5 =>
  Sum.elim (fun e5a => some e5a) (fun e5b => some (-1)) e5
/-- java/lang/StringLatin1.indexOf([BIII)I -/
def J9_indexOf (a0 : Nat) (x1 : Int32) (x2 : Int32) (x3 : Int32) (g : GS) : Option (Int32) :=
  ob_ (J9_canEncode x1) fun r2 =>
  if r2 = 0 then
  some (-1)
else
  rk_ g a0 101 <|
    if (jmax_ x2 0) < (jmin_ x3 (Int32.ofNat (gN g a0))) then
    ob_ (J9_indexOfChar a0 x1 (jmax_ x2 0) (jmin_ x3 (Int32.ofNat (gN g a0))) g) fun r7 =>
      some r7
  else
    some (-1)
/-- java/lang/String.indexOf(II)I -/
def J8_indexOf_2 (a0 : Nat) (x1 : Int32) (x2 : Int32) (g : GS) : Option (Int32) :=
  rk_ g a0 200 <|
  ob_ (J8_isLatin1 a0 g) fun r3 =>
  if r3 = 0 then
  nn_ (gR g a0 0) fun b5 =>
    ob_ (J8_length a0 g) fun r8 =>
    none
else
  nn_ (gR g a0 0) fun b9 =>
    ob_ (J8_length a0 g) fun r12 =>
    ob_ (J9_indexOf b9 x1 x2 r12 g) fun r14 =>
    some r14
/-- java/lang/String.indexOf(I)I -/
def J8_indexOf (a0 : Nat) (x1 : Int32) (g : GS) : Option (Int32) :=
  rk_ g a0 200 <|
  ob_ (J8_indexOf_2 a0 x1 0 g) fun r3 =>
  some r3

/-! PURE, printed out of the bytecode by wip/D-98610w/gen/comp.py -/
set_option maxRecDepth 100000

/-- RingHand$Scene.go(II)V -/
def X2_go (a0 : Nat) (x1 : Int32) (x2 : Int32) (g : GS) : Option ((Unit × GS) × Nat × Nat) :=
  wk_ g a0 2 <|
  nn_ (gR g a0 0) fun b2 =>
  na_ 2 <|
  al_ g 100 ((2 : Int32).toNatClampNeg) fun u4 g5 =>
  in_ 0 (gN g5 u4) <|
  in_ 1 (gN (pI g5 u4 (0 : Int32).toNatClampNeg x1) u4) <|
  wk_ (pI (pI g5 u4 (0 : Int32).toNatClampNeg x1) u4 (1 : Int32).toNatClampNeg x2) b2 12 <|
  ca_ (J2_add b2 u4 (pI (pI g5 u4 (0 : Int32).toNatClampNeg x1) u4 (1 : Int32).toNatClampNeg x2)) fun r14 g13 =>
  wk_ g13 a0 2 <|
  some (((), pI g13 a0 6 ((gI g13 a0 6) + x2)), 0, 0)
/-- RingHand$Scene.end()I -/
def X2_end (a0 : Nat) (g : GS) : Option (Int32) :=
  wk_ g a0 2 <|
  nn_ (gR g a0 0) fun b2 =>
  wk_ g b2 12 <|
  ob_ (J2_isEmpty b2 g) fun r6 =>
  if r6 = 0 then
  nn_ (gR g a0 0) fun b8 =>
    nn_ (gR g a0 0) fun b10 =>
    wk_ g b10 12 <|
    ob_ (J2_size b10 g) fun r14 =>
    wk_ g b8 12 <|
    ob_ (J2_get b8 (r14 - 1) g) fun r17 =>
    rk_ g r17 100 <|
    in_ 0 (gN g r17) <|
    some (gI g r17 (0 : Int32).toNatClampNeg)
else
  some (gI g a0 5)
def X2_her_b10 (a0 : Nat) (g : GS) (x2 : Int32) (x3 : Int32) (x4 : Int32) : Option ((Int32 × Int32 × Int32) ⊕ (((Int32 × Int32 × Nat) ⊕ (Int32)))) :=
  wk_ g a0 2 <|
  nn_ (gR g a0 0) fun b3 =>
  wk_ g b3 12 <|
  ob_ (J2_size b3 g) fun r7 =>
  if r7 ≤ x4 then
  some (.inr (.inr x2))
else
  nn_ (gR g a0 0) fun b9 =>
    wk_ g b9 12 <|
    ob_ (J2_get b9 x4 g) fun r13 =>
    rk_ g r13 100 <|
    in_ 1 (gN g r13) <|
    if (gI g r13 (1 : Int32).toNatClampNeg) ≤ x3 then
    in_ 1 (gN g r13) <|
      in_ 0 (gN g r13) <|
      some (.inl (gI g r13 (0 : Int32).toNatClampNeg, x3 - (gI g r13 (1 : Int32).toNatClampNeg), x4 + 1))
  else
    some (.inr (.inl (x2, x3, r13)))
/-- RingHand$Scene.her(I)I -/
def X2_her (a0 : Nat) (x1 : Int32) (g : GS) : Option (Int32) :=
  wk_ g a0 2 <|
  ob_ (lp_ (fun a => X2_her_b10 a0 g a.1 a.2.1 a.2.2) fu_ (gI g a0 5, x1, 0)) fun e19 =>
  Sum.elim (fun e19a => rk_ g e19a.2.2 100 <|
  in_ 0 (gN g e19a.2.2) <|
  in_ 1 (gN g e19a.2.2) <|
  dv_ (gI g e19a.2.2 (1 : Int32).toNatClampNeg) <|
  some (e19a.1 + ((((gI g e19a.2.2 (0 : Int32).toNatClampNeg) - e19a.1) * e19a.2.1) / (gI g e19a.2.2 (1 : Int32).toNatClampNeg)))) (fun e19b => some e19b) e19
def X2_isHis_j61 (a0 : Nat) (x1 : Int32) (x2 : Int32) (x3 : Int32) (g : GS) : Option ((Int32 × Int32) ⊕ (Int32)) :=
  some (.inl (x2, x3 + 1))
def X2_isHis_j60 (a0 : Nat) (x1 : Int32) (x3 : Int32) (t0 : Int32) (g : GS) : Option ((Int32 × Int32) ⊕ (Int32)) :=
  X2_isHis_j61 a0 x1 t0 x3 g
def X2_isHis_b4 (a0 : Nat) (x1 : Int32) (g : GS) (x2 : Int32) (x3 : Int32) : Option ((Int32 × Int32) ⊕ (Int32)) :=
  wk_ g a0 2 <|
  nn_ (gR g a0 1) fun b2 =>
  wk_ g b2 12 <|
  ob_ (J2_size b2 g) fun r6 =>
  if r6 ≤ x3 then
  some (.inr x2)
else
  nn_ (gR g a0 1) fun b8 =>
    wk_ g b8 12 <|
    ob_ (J2_get b8 x3 g) fun r12 =>
    rk_ g r12 100 <|
    in_ 0 (gN g r12) <|
    if x1 < (gI g r12 (0 : Int32).toNatClampNeg) then
    X2_isHis_j61 a0 x1 x2 x3 g
  else
    nn_ (gR g a0 1) fun b16 =>
      wk_ g b16 12 <|
      ob_ (J2_get b16 x3 g) fun r20 =>
      rk_ g r20 100 <|
      in_ 1 (gN g r20) <|
      if (gI g r20 (1 : Int32).toNatClampNeg) = 1 then
      X2_isHis_j60 a0 x1 x3 1 g
    else
      X2_isHis_j60 a0 x1 x3 0 g
/-- RingHand$Scene.isHis(I)Z -/
def X2_isHis (a0 : Nat) (x1 : Int32) (g : GS) : Option (Int32) :=
  ob_ (lp_ (fun a => X2_isHis_b4 a0 x1 g a.1 a.2) fu_ (0, 0)) fun e24 =>
  some (zb_ e24)
def X2_places_j89 (a0 : Nat) (a1 : Nat) (x2 : Int32) (g : GS) : Option (((Int32 × GS) ⊕ (GS)) × Nat × Nat) :=
  some (.inl (x2 + 1, g), 0, 0)
def X2_places_b24 (a0 : Nat) (a1 : Nat) (x2 : Int32) (g : GS) : Option (((Int32 × GS) ⊕ (GS)) × Nat × Nat) :=
  wk_ g a0 2 <|
  nn_ (gR g a0 0) fun b20 =>
  wk_ g b20 12 <|
  ob_ (J2_size b20 g) fun r24 =>
  if r24 ≤ x2 then
  some (.inr g, 0, 0)
else
  nn_ (gR g a0 0) fun b26 =>
    wk_ g b26 12 <|
    ob_ (J2_get b26 x2 g) fun r30 =>
    rk_ g r30 100 <|
    in_ 0 (gN g r30) <|
    ca_ (J19_valueOf (gI g r30 (0 : Int32).toNatClampNeg) g) fun r35 g34 =>
    wk_ g34 a1 12 <|
    ob_ (J2_contains a1 r35 g34) fun r40 =>
    if r40 = 0 then
    wk_ g34 a0 2 <|
      nn_ (gR g34 a0 0) fun b43 =>
      wk_ g34 b43 12 <|
      ob_ (J2_get b43 x2 g34) fun r47 =>
      rk_ g34 r47 100 <|
      in_ 0 (gN g34 r47) <|
      ca_ (J19_valueOf (gI g34 r47 (0 : Int32).toNatClampNeg) g34) fun r52 g51 =>
      wk_ g51 a1 12 <|
      ca_ (J2_add a1 r52 g51) fun r58 g57 =>
      X2_places_j89 a0 a1 x2 g57
  else
    X2_places_j89 a0 a1 x2 g34
/-- RingHand$Scene.places()Ljava/util/List; -/
def X2_places (a0 : Nat) (g : GS) : Option ((Nat × GS) × Nat × Nat) :=
  al_ g 12 3 fun u1 g2 =>
  ob_ (J2_init u1 g2) fun g6 =>
  wk_ g6 a0 2 <|
  ca_ (J19_valueOf (gI g6 a0 5) g6) fun r10 g9 =>
  wk_ g9 u1 12 <|
  ca_ (J2_add u1 r10 g9) fun r16 g15 =>
  oa_ (la_ (fun a => X2_places_b24 a0 u1 a.1 a.2) fu_ (0, g15)) fun e61 =>
  some ((u1, e61), 0, 0)
/-- RingHand$Scene.<init>()V -/
def X2_init (a0 : Nat) (g : GS) : Option ((Unit × GS) × Nat × Nat) :=
  al_ g 12 3 fun u1 g2 =>
  ob_ (J2_init u1 g2) fun g6 =>
  wk_ g6 a0 2 <|
  al_ (pR g6 a0 0 (u1 + 1)) 12 3 fun u8 g9 =>
  ob_ (J2_init u8 g9) fun g13 =>
  wk_ g13 a0 2 <|
  al_ (pR g13 a0 1 (u8 + 1)) 12 3 fun u15 g16 =>
  ob_ (J2_init u15 g16) fun g20 =>
  wk_ g20 a0 2 <|
  some (((), pI (pR g20 a0 2 (u15 + 1)) a0 5 120), 0, 0)
/-- RingHand$Settings.<init>()V -/
def X3_init (a0 : Nat) (g : GS) : Option ((Unit × GS) × Nat × Nat) :=
  wk_ g a0 3 <|
  al_ (pI (pI (pI (pI g a0 0 3) a0 1 2) a0 2 20) a0 4 (-1)) 12 3 fun u2 g3 =>
  ob_ (J2_init u2 g3) fun g7 =>
  wk_ g7 a0 3 <|
  some (((), pR g7 a0 6 (u2 + 1)), 0, 0)
def X3_copy_b58 (a0 : Nat) (a1 : Nat) (x2 : Int32) (g : GS) : Option (((Int32 × GS) ⊕ (GS)) × Nat × Nat) :=
  wk_ g a0 3 <|
  nn_ (gR g a0 6) fun b13 =>
  wk_ g b13 12 <|
  ob_ (J2_size b13 g) fun r17 =>
  if r17 ≤ x2 then
  some (.inr g, 0, 0)
else
  wk_ g a1 3 <|
    nn_ (gR g a1 6) fun b20 =>
    nn_ (gR g a0 6) fun b22 =>
    wk_ g b22 12 <|
    ob_ (J2_get b22 x2 g) fun r26 =>
    rk_ g r26 14 <|
    wk_ g b20 12 <|
    ca_ (J2_add b20 r26 g) fun r31 g30 =>
    some (.inl (x2 + 1, g30), 0, 0)
/-- RingHand$Settings.copy()LRingHand$Settings; -/
def X3_copy (a0 : Nat) (g : GS) : Option ((Nat × GS) × Nat × Nat) :=
  al_ g 3 7 fun u1 g2 =>
  ca_ (X3_init u1 g2) fun r7 g6 =>
  wk_ g6 a0 3 <|
  wk_ g6 u1 3 <|
  oa_ (la_ (fun a => X3_copy_b58 a0 u1 a.1 a.2) fu_ (0, pI (pI (pI (pI (pI (pI g6 u1 0 (gI g6 a0 0)) u1 1 (gI (pI g6 u1 0 (gI g6 a0 0)) a0 1)) u1 2 (gI (pI (pI g6 u1 0 (gI g6 a0 0)) u1 1 (gI (pI g6 u1 0 (gI g6 a0 0)) a0 1)) a0 2)) u1 3 (gI (pI (pI (pI g6 u1 0 (gI g6 a0 0)) u1 1 (gI (pI g6 u1 0 (gI g6 a0 0)) a0 1)) u1 2 (gI (pI (pI g6 u1 0 (gI g6 a0 0)) u1 1 (gI (pI g6 u1 0 (gI g6 a0 0)) a0 1)) a0 2)) a0 3)) u1 4 (gI (pI (pI (pI (pI g6 u1 0 (gI g6 a0 0)) u1 1 (gI (pI g6 u1 0 (gI g6 a0 0)) a0 1)) u1 2 (gI (pI (pI g6 u1 0 (gI g6 a0 0)) u1 1 (gI (pI g6 u1 0 (gI g6 a0 0)) a0 1)) a0 2)) u1 3 (gI (pI (pI (pI g6 u1 0 (gI g6 a0 0)) u1 1 (gI (pI g6 u1 0 (gI g6 a0 0)) a0 1)) u1 2 (gI (pI (pI g6 u1 0 (gI g6 a0 0)) u1 1 (gI (pI g6 u1 0 (gI g6 a0 0)) a0 1)) a0 2)) a0 3)) a0 4)) u1 5 (gI (pI (pI (pI (pI (pI g6 u1 0 (gI g6 a0 0)) u1 1 (gI (pI g6 u1 0 (gI g6 a0 0)) a0 1)) u1 2 (gI (pI (pI g6 u1 0 (gI g6 a0 0)) u1 1 (gI (pI g6 u1 0 (gI g6 a0 0)) a0 1)) a0 2)) u1 3 (gI (pI (pI (pI g6 u1 0 (gI g6 a0 0)) u1 1 (gI (pI g6 u1 0 (gI g6 a0 0)) a0 1)) u1 2 (gI (pI (pI g6 u1 0 (gI g6 a0 0)) u1 1 (gI (pI g6 u1 0 (gI g6 a0 0)) a0 1)) a0 2)) a0 3)) u1 4 (gI (pI (pI (pI (pI g6 u1 0 (gI g6 a0 0)) u1 1 (gI (pI g6 u1 0 (gI g6 a0 0)) a0 1)) u1 2 (gI (pI (pI g6 u1 0 (gI g6 a0 0)) u1 1 (gI (pI g6 u1 0 (gI g6 a0 0)) a0 1)) a0 2)) u1 3 (gI (pI (pI (pI g6 u1 0 (gI g6 a0 0)) u1 1 (gI (pI g6 u1 0 (gI g6 a0 0)) a0 1)) u1 2 (gI (pI (pI g6 u1 0 (gI g6 a0 0)) u1 1 (gI (pI g6 u1 0 (gI g6 a0 0)) a0 1)) a0 2)) a0 3)) a0 4)) a0 5))) fun e34 =>
  some ((u1, e34), 0, 0)
def X3_isByMark_b2 (a0 : Nat) (x1 : Int32) (g : GS) (x2 : Int32) : Option ((Int32) ⊕ (((Unit) ⊕ (Unit)))) :=
  wk_ g a0 3 <|
  nn_ (gR g a0 6) fun b2 =>
  wk_ g b2 12 <|
  ob_ (J2_size b2 g) fun r6 =>
  if r6 ≤ x2 then
  some (.inr (.inr ()))
else
  nn_ (gR g a0 6) fun b8 =>
    wk_ g b8 12 <|
    ob_ (J2_get b8 x2 g) fun r12 =>
    rk_ g r12 14 <|
    ob_ (J19_intValue r12 g) fun r15 =>
    if 6 < (jabs_ (r15 - x1)) then
    some (.inl (x2 + 1))
  else
    some (.inr (.inl ()))
/-- RingHand$Settings.isByMark(I)Z -/
def X3_isByMark (a0 : Nat) (x1 : Int32) (g : GS) : Option (Int32) :=
  ob_ (lp_ (fun a => X3_isByMark_b2 a0 x1 g a) fu_ 0) fun e17 =>
  Sum.elim (fun e17a => some 1) (fun e17b => some 0) e17
/-- RingHand$Chain.<init>(LRingHand$Form;)V -/
def X7_init (a0 : Nat) (a1 : Nat) (g : GS) : Option ((Unit × GS) × Nat × Nat) :=
  al_ g 12 3 fun u1 g2 =>
  ob_ (J2_init u1 g2) fun g6 =>
  wk_ g6 a0 6 <|
  al_ (pR g6 a0 0 (u1 + 1)) 13 4 fun u8 g9 =>
  ca_ (J14_init u8 g9) fun r14 g13 =>
  wk_ g13 a0 6 <|
  nn_ (gR (pR g13 a0 1 (u8 + 1)) a0 0) fun b18 =>
  wk_ (pR g13 a0 1 (u8 + 1)) b18 12 <|
  ca_ (J2_add b18 a1 (pR g13 a0 1 (u8 + 1))) fun r23 g22 =>
  some (((), g22), 0, 0)
/-- RingHand$Chain.add(CLRingHand$Form;)V -/
def X7_add (a0 : Nat) (x1 : Int32) (a2 : Nat) (g : GS) : Option ((Unit × GS) × Nat × Nat) :=
  wk_ g a0 6 <|
  nn_ (gR g a0 1) fun b2 =>
  wk_ g b2 13 <|
  ca_ (J14_append b2 x1 g) fun r7 g6 =>
  wk_ g6 a0 6 <|
  nn_ (gR g6 a0 0) fun b11 =>
  wk_ g6 b11 12 <|
  ca_ (J2_add b11 a2 g6) fun r16 g15 =>
  some (((), g15), 0, 0)
/-- RingHand$Chain.plain()LRingHand$Form; -/
def X7_plain (a0 : Nat) (g : GS) : Option (Nat) :=
  wk_ g a0 6 <|
  nn_ (gR g a0 0) fun b2 =>
  wk_ g b2 12 <|
  ob_ (J2_size b2 g) fun r6 =>
  if r6 = 1 then
  nn_ (gR g a0 0) fun b8 =>
    wk_ g b8 12 <|
    ob_ (J2_get b8 0 g) fun r12 =>
    gd_ (g_isF (gK g r12)) <|
    some r12
else
  some a0
def X7_by_j180 : Option (Int32) :=
  some 1
/-- RingHand$Chain.by(CII)I -/
def X7_by (x0 : Int32) (x1 : Int32) (x2 : Int32) : Option (Int32) :=
  if x0 = 38 then
  if x1 = 0 then
    some 0
  else
    if x2 = 0 then
      some 0
    else
      some 1
else
  if x0 = 39 then
    if x1 = 0 then
      if x2 = 0 then
        some 0
      else
        X7_by_j180
    else
      X7_by_j180
  else
    if x0 = 40 then
      if x1 = 0 then
        if x2 = 0 then
          some 0
        else
          X7_by_j180
      else
        X7_by_j180
    else
      if x0 = 41 then
        if x1 = 0 then
          if x2 = 0 then
            some 0
          else
            X7_by_j180
        else
          X7_by_j180
      else
        if x0 = 42 then
          some (x1 * x2)
        else
          if x0 = 43 then
            some (x1 + x2)
          else
            if x0 = 44 then
              if x1 = 0 then
                if x2 = 0 then
                  some 0
                else
                  X7_by_j180
              else
                X7_by_j180
            else
              if x0 = 45 then
                some (x1 - x2)
              else
                if x0 = 46 then
                  if x1 = 0 then
                    if x2 = 0 then
                      some 0
                    else
                      X7_by_j180
                  else
                    X7_by_j180
                else
                  if x0 = 47 then
                    if x2 = 0 then
                      some 0
                    else
                      dv_ x2 <|
                        some (x1 / x2)
                  else
                    if x0 = 48 then
                      if x1 = 0 then
                        if x2 = 0 then
                          some 0
                        else
                          X7_by_j180
                      else
                        X7_by_j180
                    else
                      if x0 = 49 then
                        if x1 = 0 then
                          if x2 = 0 then
                            some 0
                          else
                            X7_by_j180
                        else
                          X7_by_j180
                      else
                        if x0 = 50 then
                          if x1 = 0 then
                            if x2 = 0 then
                              some 0
                            else
                              X7_by_j180
                          else
                            X7_by_j180
                        else
                          if x0 = 51 then
                            if x1 = 0 then
                              if x2 = 0 then
                                some 0
                              else
                                X7_by_j180
                            else
                              X7_by_j180
                          else
                            if x0 = 52 then
                              if x1 = 0 then
                                if x2 = 0 then
                                  some 0
                                else
                                  X7_by_j180
                              else
                                X7_by_j180
                            else
                              if x0 = 53 then
                                if x1 = 0 then
                                  if x2 = 0 then
                                    some 0
                                  else
                                    X7_by_j180
                                else
                                  X7_by_j180
                              else
                                if x0 = 54 then
                                  if x1 = 0 then
                                    if x2 = 0 then
                                      some 0
                                    else
                                      X7_by_j180
                                  else
                                    X7_by_j180
                                else
                                  if x0 = 55 then
                                    if x1 = 0 then
                                      if x2 = 0 then
                                        some 0
                                      else
                                        X7_by_j180
                                    else
                                      X7_by_j180
                                  else
                                    if x0 = 56 then
                                      if x1 = 0 then
                                        if x2 = 0 then
                                          some 0
                                        else
                                          X7_by_j180
                                      else
                                        X7_by_j180
                                    else
                                      if x0 = 57 then
                                        if x1 = 0 then
                                          if x2 = 0 then
                                            some 0
                                          else
                                            X7_by_j180
                                        else
                                          X7_by_j180
                                      else
                                        if x0 = 58 then
                                          if x1 = 0 then
                                            if x2 = 0 then
                                              some 0
                                            else
                                              X7_by_j180
                                          else
                                            X7_by_j180
                                        else
                                          if x0 = 59 then
                                            if x1 = 0 then
                                              if x2 = 0 then
                                                some 0
                                              else
                                                X7_by_j180
                                            else
                                              X7_by_j180
                                          else
                                            if x0 = 60 then
                                              if x2 ≤ x1 then
                                                some 0
                                              else
                                                some 1
                                            else
                                              if x0 = 61 then
                                                if x1 = x2 then
                                                  some 1
                                                else
                                                  some 0
                                              else
                                                if x1 = 0 then
                                                  if x2 = 0 then
                                                    some 0
                                                  else
                                                    X7_by_j180
                                                else
                                                  X7_by_j180
/-- RingHand$Number.<init>(I)V -/
def X8_init (a0 : Nat) (x1 : Int32) (g : GS) : Option (GS) :=
  wk_ g a0 7 <|
  some (pI g a0 0 x1)
/-- RingHand$Number.of([I)I -/
def X8_of (a0 : Nat) (a1 : Nat) (g : GS) : Option (Int32) :=
  wk_ g a0 7 <|
  some (gI g a0 0)
/-- RingHand$Value.<init>(I)V -/
def X9_init (a0 : Nat) (x1 : Int32) (g : GS) : Option (GS) :=
  wk_ g a0 8 <|
  some (pI g a0 0 x1)
/-- RingHand$Value.of([I)I -/
def X9_of (a0 : Nat) (a1 : Nat) (g : GS) : Option (Int32) :=
  wk_ g a0 8 <|
  rk_ g a1 100 <|
  in_ (gI g a0 0) (gN g a1) <|
  some (gI g a1 (gI g a0 0).toNatClampNeg)
/-- RingHand$Not.<init>(LRingHand$Form;)V -/
def X10_init (a0 : Nat) (a1 : Nat) (g : GS) : Option (GS) :=
  wk_ g a0 9 <|
  some (pR g a0 0 (a1 + 1))
def X7_of_b22 (rec : Nat → Nat → GS → Option Int32) (a0 : Nat) (a1 : Nat) (g : GS) (x2 : Int32) (x3 : Int32) : Option ((Int32 × Int32) ⊕ (Int32)) :=
  wk_ g a0 6 <|
  nn_ (gR g a0 0) fun b11 =>
  wk_ g b11 12 <|
  ob_ (J2_size b11 g) fun r15 =>
  if r15 ≤ x3 then
  some (.inr x2)
else
  nn_ (gR g a0 1) fun b17 =>
    wk_ g b17 13 <|
    ob_ (J14_charAt b17 (x3 - 1) g) fun r21 =>
    nn_ (gR g a0 0) fun b22 =>
    wk_ g b22 12 <|
    ob_ (J2_get b22 x3 g) fun r26 =>
    gd_ (g_isF (gK g r26)) <|
    ob_ (rec r26 a1 g) fun r28 =>
    ob_ (X7_by r21 x2 r28) fun r31 =>
    some (.inl (r31, x3 + 1))
/-- RingHand$Chain.of([I)I -/
def X7_of (rec : Nat → Nat → GS → Option Int32) (a0 : Nat) (a1 : Nat) (g : GS) : Option (Int32) :=
  wk_ g a0 6 <|
  nn_ (gR g a0 0) fun b2 =>
  wk_ g b2 12 <|
  ob_ (J2_get b2 0 g) fun r6 =>
  gd_ (g_isF (gK g r6)) <|
  ob_ (rec r6 a1 g) fun r8 =>
  ob_ (lp_ (fun a => X7_of_b22 rec a0 a1 g a.1 a.2) fu_ (r8, 1)) fun e32 =>
  some e32
/-- RingHand$Not.of([I)I -/
def X10_of (rec : Nat → Nat → GS → Option Int32) (a0 : Nat) (a1 : Nat) (g : GS) : Option (Int32) :=
  wk_ g a0 9 <|
  nn_ (gR g a0 0) fun b2 =>
  ob_ (rec b2 a1 g) fun r4 =>
  if r4 = 0 then
  some 1
else
  some 0

/-! FORM.of for any depth: the fuel ff_ (own work) -/
def ff_ : Nat := 200
def Fof_ : Nat → Nat → Nat → GS → Option Int32
  | 0, _, _, _ => none
  | n + 1, b, v, g => if gK g b = 6 then X7_of (Fof_ n) b v g else if gK g b = 7 then X8_of b v g else if gK g b = 8 then X9_of b v g else if gK g b = 9 then X10_of (Fof_ n) b v g else none
end
section
/-! PURE, printed out of the bytecode by wip/D-98610w/gen/comp.py -/
set_option maxRecDepth 100000

/-- RingHand.kept(III)I -/
def X1_kept (x0 : Int32) (x1 : Int32) (x2 : Int32) : Option (Int32) :=
  some (jmax_ x1 (jmin_ x2 x0))
/-- RingHand.turnOf(I)I -/
def X1_turnOf (a0 : Nat) (x1 : Int32) (g : GS) : Option (Int32 × GS) :=
  wk_ g a0 1 <|
  nn_ (gR g a0 0) fun b2 =>
  wk_ g b2 2 <|
  if (gR g b2 3) = 0 then
  dv_ x1 <|
    some (4320 / x1, g)
else
  nn_ (gR g a0 2) fun b6 =>
    wk_ g b6 100 <|
    in_ 0 (gN g b6) <|
    nn_ (gR (pI g b6 (0 : Int32).toNatClampNeg x1) a0 0) fun b10 =>
    wk_ (pI g b6 (0 : Int32).toNatClampNeg x1) b10 2 <|
    nn_ (gR (pI g b6 (0 : Int32).toNatClampNeg x1) b10 3) fun b13 =>
    nn_ (gR (pI g b6 (0 : Int32).toNatClampNeg x1) a0 2) fun b15 =>
    ob_ (Fof_ ff_ b13 b15 (pI g b6 (0 : Int32).toNatClampNeg x1)) fun r17 =>
    ob_ (X1_kept r17 0 999) fun r20 =>
    some (r20, pI g b6 (0 : Int32).toNatClampNeg x1)
/-- RingHand$Take.<init>(LRingHand;LRingHand$Settings;)V -/
def X11_init (a0 : Nat) (a1 : Nat) (a2 : Nat) (g : GS) : Option ((Unit × GS) × Nat × Nat) :=
  wk_ g a0 10 <|
  na_ 601 <|
  al_ (pR g a0 7 (a1 + 1)) 100 ((601 : Int32).toNatClampNeg) fun u2 g3 =>
  wk_ g3 a0 10 <|
  na_ 601 <|
  al_ (pR g3 a0 1 (u2 + 1)) 100 ((601 : Int32).toNatClampNeg) fun u8 g9 =>
  wk_ g9 a0 10 <|
  na_ 601 <|
  al_ (pR g9 a0 2 (u8 + 1)) 100 ((601 : Int32).toNatClampNeg) fun u14 g15 =>
  wk_ g15 a0 10 <|
  some (((), pR (pR g15 a0 3 (u14 + 1)) a0 0 (a2 + 1)), 0, 0)
/-- RingHand$Take.inches(IZ)I -/
def X11_inches (a0 : Nat) (x1 : Int32) (x2 : Int32) (g : GS) : Option (Int32) :=
  wk_ g a0 10 <|
  nn_ (gR g a0 7) fun b2 =>
  wk_ g b2 1 <|
  nn_ (gR g b2 0) fun b5 =>
  wk_ g b5 2 <|
  ob_ (X2_her b5 (jmax_ 0 (x1 - (gI g a0 4))) g) fun r9 =>
  if x2 = 0 then
  some r9
else
  nn_ (gR g a0 0) fun b11 =>
    wk_ g b11 3 <|
    some (jmin_ 480 (r9 + (gI g b11 5)))
/-- RingHand$Take.judged(I)I -/
def X11_judged (a0 : Nat) (x1 : Int32) (g : GS) : Option (Int32) :=
  wk_ g a0 10 <|
  nn_ (gR g a0 0) fun b2 =>
  wk_ g b2 3 <|
  ob_ (X3_isByMark b2 x1 g) fun r6 =>
  if r6 = 0 then
  nn_ (gR g a0 0) fun b8 =>
    wk_ g b8 3 <|
    dv_ 100 <|
    ob_ (X1_kept (x1 + ((x1 * (gI g b8 3)) / 100)) 12 480) fun r13 =>
    some r13
else
  some x1
def X11_goal_j142 (a0 : Nat) (t0 : Nat) (t1 : Int32) (t2 : Int32) (g : GS) : Option (Int32 × GS) :=
  wk_ g t0 100 <|
  in_ t1 (gN g t0) <|
  wk_ (pI g t0 t1.toNatClampNeg t2) a0 10 <|
  nn_ (gR (pI g t0 t1.toNatClampNeg t2) a0 7) fun b72 =>
  wk_ (pI g t0 t1.toNatClampNeg t2) b72 1 <|
  nn_ (gR (pI g t0 t1.toNatClampNeg t2) b72 0) fun b75 =>
  wk_ (pI g t0 t1.toNatClampNeg t2) b75 2 <|
  nn_ (gR (pI g t0 t1.toNatClampNeg t2) b75 2) fun b78 =>
  nn_ (gR (pI g t0 t1.toNatClampNeg t2) a0 0) fun b80 =>
  wk_ (pI g t0 t1.toNatClampNeg t2) b80 3 <|
  wk_ (pI g t0 t1.toNatClampNeg t2) b78 12 <|
  ob_ (J2_get b78 (gI (pI g t0 t1.toNatClampNeg t2) b80 4) (pI g t0 t1.toNatClampNeg t2)) fun r85 =>
  gd_ (g_isF (gK (pI g t0 t1.toNatClampNeg t2) r85)) <|
  nn_ (gR (pI g t0 t1.toNatClampNeg t2) a0 7) fun b87 =>
  wk_ (pI g t0 t1.toNatClampNeg t2) b87 1 <|
  nn_ (gR (pI g t0 t1.toNatClampNeg t2) b87 2) fun b90 =>
  ob_ (Fof_ ff_ r85 b90 (pI g t0 t1.toNatClampNeg t2)) fun r92 =>
  ob_ (X1_kept r92 0 999) fun r95 =>
  some (r95, pI g t0 t1.toNatClampNeg t2)
def X11_goal_j50 (a0 : Nat) (x1 : Int32) (x2 : Int32) (t0 : Int32) (g : GS) : Option (Int32 × GS) :=
  wk_ g a0 10 <|
  nn_ (gR g a0 0) fun b18 =>
  wk_ g b18 3 <|
  if (gI g b18 4) = (-1) then
  some (t0, g)
else
  nn_ (gR g a0 7) fun b22 =>
    wk_ g b22 1 <|
    nn_ (gR g b22 2) fun b25 =>
    wk_ g b25 100 <|
    in_ 0 (gN g b25) <|
    nn_ (gR (pI g b25 (0 : Int32).toNatClampNeg t0) a0 7) fun b29 =>
    wk_ (pI g b25 (0 : Int32).toNatClampNeg t0) b29 1 <|
    nn_ (gR (pI g b25 (0 : Int32).toNatClampNeg t0) b29 2) fun b32 =>
    nn_ (gR (pI g b25 (0 : Int32).toNatClampNeg t0) a0 1) fun b34 =>
    rk_ (pI g b25 (0 : Int32).toNatClampNeg t0) b34 100 <|
    in_ (x1 - 1) (gN (pI g b25 (0 : Int32).toNatClampNeg t0) b34) <|
    wk_ (pI g b25 (0 : Int32).toNatClampNeg t0) b32 100 <|
    in_ 1 (gN (pI g b25 (0 : Int32).toNatClampNeg t0) b32) <|
    nn_ (gR (pI (pI g b25 (0 : Int32).toNatClampNeg t0) b32 (1 : Int32).toNatClampNeg (gI (pI g b25 (0 : Int32).toNatClampNeg t0) b34 (x1 - 1).toNatClampNeg)) a0 7) fun b40 =>
    wk_ (pI (pI g b25 (0 : Int32).toNatClampNeg t0) b32 (1 : Int32).toNatClampNeg (gI (pI g b25 (0 : Int32).toNatClampNeg t0) b34 (x1 - 1).toNatClampNeg)) b40 1 <|
    nn_ (gR (pI (pI g b25 (0 : Int32).toNatClampNeg t0) b32 (1 : Int32).toNatClampNeg (gI (pI g b25 (0 : Int32).toNatClampNeg t0) b34 (x1 - 1).toNatClampNeg)) b40 2) fun b43 =>
    nn_ (gR (pI (pI g b25 (0 : Int32).toNatClampNeg t0) b32 (1 : Int32).toNatClampNeg (gI (pI g b25 (0 : Int32).toNatClampNeg t0) b34 (x1 - 1).toNatClampNeg)) a0 2) fun b45 =>
    rk_ (pI (pI g b25 (0 : Int32).toNatClampNeg t0) b32 (1 : Int32).toNatClampNeg (gI (pI g b25 (0 : Int32).toNatClampNeg t0) b34 (x1 - 1).toNatClampNeg)) b45 100 <|
    in_ (x1 - 1) (gN (pI (pI g b25 (0 : Int32).toNatClampNeg t0) b32 (1 : Int32).toNatClampNeg (gI (pI g b25 (0 : Int32).toNatClampNeg t0) b34 (x1 - 1).toNatClampNeg)) b45) <|
    wk_ (pI (pI g b25 (0 : Int32).toNatClampNeg t0) b32 (1 : Int32).toNatClampNeg (gI (pI g b25 (0 : Int32).toNatClampNeg t0) b34 (x1 - 1).toNatClampNeg)) b43 100 <|
    in_ 2 (gN (pI (pI g b25 (0 : Int32).toNatClampNeg t0) b32 (1 : Int32).toNatClampNeg (gI (pI g b25 (0 : Int32).toNatClampNeg t0) b34 (x1 - 1).toNatClampNeg)) b43) <|
    nn_ (gR (pI (pI (pI g b25 (0 : Int32).toNatClampNeg t0) b32 (1 : Int32).toNatClampNeg (gI (pI g b25 (0 : Int32).toNatClampNeg t0) b34 (x1 - 1).toNatClampNeg)) b43 (2 : Int32).toNatClampNeg (gI (pI (pI g b25 (0 : Int32).toNatClampNeg t0) b32 (1 : Int32).toNatClampNeg (gI (pI g b25 (0 : Int32).toNatClampNeg t0) b34 (x1 - 1).toNatClampNeg)) b45 (x1 - 1).toNatClampNeg)) a0 7) fun b51 =>
    wk_ (pI (pI (pI g b25 (0 : Int32).toNatClampNeg t0) b32 (1 : Int32).toNatClampNeg (gI (pI g b25 (0 : Int32).toNatClampNeg t0) b34 (x1 - 1).toNatClampNeg)) b43 (2 : Int32).toNatClampNeg (gI (pI (pI g b25 (0 : Int32).toNatClampNeg t0) b32 (1 : Int32).toNatClampNeg (gI (pI g b25 (0 : Int32).toNatClampNeg t0) b34 (x1 - 1).toNatClampNeg)) b45 (x1 - 1).toNatClampNeg)) b51 1 <|
    nn_ (gR (pI (pI (pI g b25 (0 : Int32).toNatClampNeg t0) b32 (1 : Int32).toNatClampNeg (gI (pI g b25 (0 : Int32).toNatClampNeg t0) b34 (x1 - 1).toNatClampNeg)) b43 (2 : Int32).toNatClampNeg (gI (pI (pI g b25 (0 : Int32).toNatClampNeg t0) b32 (1 : Int32).toNatClampNeg (gI (pI g b25 (0 : Int32).toNatClampNeg t0) b34 (x1 - 1).toNatClampNeg)) b45 (x1 - 1).toNatClampNeg)) b51 2) fun b54 =>
    wk_ (pI (pI (pI g b25 (0 : Int32).toNatClampNeg t0) b32 (1 : Int32).toNatClampNeg (gI (pI g b25 (0 : Int32).toNatClampNeg t0) b34 (x1 - 1).toNatClampNeg)) b43 (2 : Int32).toNatClampNeg (gI (pI (pI g b25 (0 : Int32).toNatClampNeg t0) b32 (1 : Int32).toNatClampNeg (gI (pI g b25 (0 : Int32).toNatClampNeg t0) b34 (x1 - 1).toNatClampNeg)) b45 (x1 - 1).toNatClampNeg)) b54 100 <|
    in_ 3 (gN (pI (pI (pI g b25 (0 : Int32).toNatClampNeg t0) b32 (1 : Int32).toNatClampNeg (gI (pI g b25 (0 : Int32).toNatClampNeg t0) b34 (x1 - 1).toNatClampNeg)) b43 (2 : Int32).toNatClampNeg (gI (pI (pI g b25 (0 : Int32).toNatClampNeg t0) b32 (1 : Int32).toNatClampNeg (gI (pI g b25 (0 : Int32).toNatClampNeg t0) b34 (x1 - 1).toNatClampNeg)) b45 (x1 - 1).toNatClampNeg)) b54) <|
    nn_ (gR (pI (pI (pI (pI g b25 (0 : Int32).toNatClampNeg t0) b32 (1 : Int32).toNatClampNeg (gI (pI g b25 (0 : Int32).toNatClampNeg t0) b34 (x1 - 1).toNatClampNeg)) b43 (2 : Int32).toNatClampNeg (gI (pI (pI g b25 (0 : Int32).toNatClampNeg t0) b32 (1 : Int32).toNatClampNeg (gI (pI g b25 (0 : Int32).toNatClampNeg t0) b34 (x1 - 1).toNatClampNeg)) b45 (x1 - 1).toNatClampNeg)) b54 (3 : Int32).toNatClampNeg x1) a0 7) fun b58 =>
    wk_ (pI (pI (pI (pI g b25 (0 : Int32).toNatClampNeg t0) b32 (1 : Int32).toNatClampNeg (gI (pI g b25 (0 : Int32).toNatClampNeg t0) b34 (x1 - 1).toNatClampNeg)) b43 (2 : Int32).toNatClampNeg (gI (pI (pI g b25 (0 : Int32).toNatClampNeg t0) b32 (1 : Int32).toNatClampNeg (gI (pI g b25 (0 : Int32).toNatClampNeg t0) b34 (x1 - 1).toNatClampNeg)) b45 (x1 - 1).toNatClampNeg)) b54 (3 : Int32).toNatClampNeg x1) b58 1 <|
    nn_ (gR (pI (pI (pI (pI g b25 (0 : Int32).toNatClampNeg t0) b32 (1 : Int32).toNatClampNeg (gI (pI g b25 (0 : Int32).toNatClampNeg t0) b34 (x1 - 1).toNatClampNeg)) b43 (2 : Int32).toNatClampNeg (gI (pI (pI g b25 (0 : Int32).toNatClampNeg t0) b32 (1 : Int32).toNatClampNeg (gI (pI g b25 (0 : Int32).toNatClampNeg t0) b34 (x1 - 1).toNatClampNeg)) b45 (x1 - 1).toNatClampNeg)) b54 (3 : Int32).toNatClampNeg x1) b58 2) fun b61 =>
    nn_ (gR (pI (pI (pI (pI g b25 (0 : Int32).toNatClampNeg t0) b32 (1 : Int32).toNatClampNeg (gI (pI g b25 (0 : Int32).toNatClampNeg t0) b34 (x1 - 1).toNatClampNeg)) b43 (2 : Int32).toNatClampNeg (gI (pI (pI g b25 (0 : Int32).toNatClampNeg t0) b32 (1 : Int32).toNatClampNeg (gI (pI g b25 (0 : Int32).toNatClampNeg t0) b34 (x1 - 1).toNatClampNeg)) b45 (x1 - 1).toNatClampNeg)) b54 (3 : Int32).toNatClampNeg x1) a0 0) fun b63 =>
    wk_ (pI (pI (pI (pI g b25 (0 : Int32).toNatClampNeg t0) b32 (1 : Int32).toNatClampNeg (gI (pI g b25 (0 : Int32).toNatClampNeg t0) b34 (x1 - 1).toNatClampNeg)) b43 (2 : Int32).toNatClampNeg (gI (pI (pI g b25 (0 : Int32).toNatClampNeg t0) b32 (1 : Int32).toNatClampNeg (gI (pI g b25 (0 : Int32).toNatClampNeg t0) b34 (x1 - 1).toNatClampNeg)) b45 (x1 - 1).toNatClampNeg)) b54 (3 : Int32).toNatClampNeg x1) b63 3 <|
    ob_ (X3_isByMark b63 x2 (pI (pI (pI (pI g b25 (0 : Int32).toNatClampNeg t0) b32 (1 : Int32).toNatClampNeg (gI (pI g b25 (0 : Int32).toNatClampNeg t0) b34 (x1 - 1).toNatClampNeg)) b43 (2 : Int32).toNatClampNeg (gI (pI (pI g b25 (0 : Int32).toNatClampNeg t0) b32 (1 : Int32).toNatClampNeg (gI (pI g b25 (0 : Int32).toNatClampNeg t0) b34 (x1 - 1).toNatClampNeg)) b45 (x1 - 1).toNatClampNeg)) b54 (3 : Int32).toNatClampNeg x1)) fun r67 =>
    if r67 = 0 then
    X11_goal_j142 a0 b61 4 0 (pI (pI (pI (pI g b25 (0 : Int32).toNatClampNeg t0) b32 (1 : Int32).toNatClampNeg (gI (pI g b25 (0 : Int32).toNatClampNeg t0) b34 (x1 - 1).toNatClampNeg)) b43 (2 : Int32).toNatClampNeg (gI (pI (pI g b25 (0 : Int32).toNatClampNeg t0) b32 (1 : Int32).toNatClampNeg (gI (pI g b25 (0 : Int32).toNatClampNeg t0) b34 (x1 - 1).toNatClampNeg)) b45 (x1 - 1).toNatClampNeg)) b54 (3 : Int32).toNatClampNeg x1)
  else
    X11_goal_j142 a0 b61 4 1 (pI (pI (pI (pI g b25 (0 : Int32).toNatClampNeg t0) b32 (1 : Int32).toNatClampNeg (gI (pI g b25 (0 : Int32).toNatClampNeg t0) b34 (x1 - 1).toNatClampNeg)) b43 (2 : Int32).toNatClampNeg (gI (pI (pI g b25 (0 : Int32).toNatClampNeg t0) b32 (1 : Int32).toNatClampNeg (gI (pI g b25 (0 : Int32).toNatClampNeg t0) b34 (x1 - 1).toNatClampNeg)) b45 (x1 - 1).toNatClampNeg)) b54 (3 : Int32).toNatClampNeg x1)
/-- RingHand$Take.goal(II)I -/
def X11_goal (a0 : Nat) (x1 : Int32) (x2 : Int32) (g : GS) : Option (Int32 × GS) :=
  wk_ g a0 10 <|
  if (gI g a0 5) = 0 then
  nn_ (gR g a0 1) fun b96 =>
    rk_ g b96 100 <|
    in_ x1 (gN g b96) <|
    X11_goal_j50 a0 x1 x2 (gI g b96 x1.toNatClampNeg) g
else
  nn_ (gR g a0 1) fun b3 =>
    rk_ g b3 100 <|
    in_ x1 (gN g b3) <|
    nn_ (gR g a0 1) fun b7 =>
    rk_ g b7 100 <|
    in_ x1 (gN g b7) <|
    nn_ (gR g a0 1) fun b11 =>
    rk_ g b11 100 <|
    in_ (x1 - 1) (gN g b11) <|
    ob_ (X1_kept ((gI g b3 x1.toNatClampNeg) + ((gI g a0 5) * ((gI g b7 x1.toNatClampNeg) - (gI g b11 (x1 - 1).toNatClampNeg)))) 0 999) fun r16 =>
    X11_goal_j50 a0 x1 x2 r16 g
def X11_run_j152 (a0 : Nat) (x1 : Int32) (x3 : Int32) (t0 : Nat) (t1 : Int32) (t2 : Int32) (g : GS) : Option ((Int32 × GS) ⊕ (GS)) :=
  wk_ g t0 100 <|
  in_ t1 (gN g t0) <|
  wk_ (pI g t0 t1.toNatClampNeg t2) a0 10 <|
  nn_ (gR (pI g t0 t1.toNatClampNeg t2) a0 3) fun b78 =>
  nn_ (gR (pI g t0 t1.toNatClampNeg t2) a0 2) fun b80 =>
  rk_ (pI g t0 t1.toNatClampNeg t2) b80 100 <|
  in_ x1 (gN (pI g t0 t1.toNatClampNeg t2) b80) <|
  wk_ (pI g t0 t1.toNatClampNeg t2) b78 100 <|
  in_ x1 (gN (pI g t0 t1.toNatClampNeg t2) b78) <|
  some (.inl (x1 + 1, pI (pI g t0 t1.toNatClampNeg t2) b78 x1.toNatClampNeg (x3 - (gI (pI g t0 t1.toNatClampNeg t2) b80 x1.toNatClampNeg))))
def X11_run_b2 (a0 : Nat) (x1 : Int32) (g : GS) : Option ((Int32 × GS) ⊕ (GS)) :=
  wk_ g a0 10 <|
  nn_ (gR g a0 7) fun b2 =>
  wk_ g b2 1 <|
  nn_ (gR g b2 0) fun b5 =>
  wk_ g b5 2 <|
  if (gI g b5 6) < x1 then
  some (.inr g)
else
  nn_ (gR g a0 7) fun b9 =>
    wk_ g b9 1 <|
    nn_ (gR g b9 0) fun b12 =>
    wk_ g b12 2 <|
    ob_ (X2_isHis b12 (x1 - (gI g a0 6)) g) fun r16 =>
    nn_ (gR g a0 7) fun b17 =>
    nn_ (gR g a0 7) fun b19 =>
    wk_ g b19 1 <|
    nn_ (gR g b19 0) fun b22 =>
    wk_ g b22 2 <|
    ob_ (X2_isHis b22 x1 g) fun r26 =>
    ob_ (X11_inches a0 x1 r26 g) fun r28 =>
    wk_ g b17 1 <|
    cb_ (X1_turnOf b17 r28 g) fun r32 g31 =>
    wk_ g31 a0 10 <|
    nn_ (gR g31 a0 0) fun b34 =>
    wk_ g31 b34 3 <|
    ob_ (X11_inches a0 (jmax_ 0 (x1 - (gI g31 b34 1))) r16 g31) fun r38 =>
    nn_ (gR g31 a0 1) fun b39 =>
    nn_ (gR g31 a0 7) fun b41 =>
    ob_ (X11_judged a0 r38 g31) fun r44 =>
    wk_ g31 b41 1 <|
    cb_ (X1_turnOf b41 r44 g31) fun r48 g47 =>
    wk_ g47 b39 100 <|
    in_ x1 (gN g47 b39) <|
    wk_ (pI g47 b39 x1.toNatClampNeg r48) a0 10 <|
    nn_ (gR (pI g47 b39 x1.toNatClampNeg r48) a0 2) fun b52 =>
    if x1 = 0 then
    X11_run_j152 a0 x1 r32 b52 x1 r32 (pI g47 b39 x1.toNatClampNeg r48)
  else
    nn_ (gR (pI g47 b39 x1.toNatClampNeg r48) a0 2) fun b55 =>
      rk_ (pI g47 b39 x1.toNatClampNeg r48) b55 100 <|
      in_ (x1 - 1) (gN (pI g47 b39 x1.toNatClampNeg r48) b55) <|
      cb_ (X11_goal a0 x1 r38 (pI g47 b39 x1.toNatClampNeg r48)) fun r61 g60 =>
      wk_ g60 a0 10 <|
      nn_ (gR g60 a0 2) fun b63 =>
      rk_ g60 b63 100 <|
      in_ (x1 - 1) (gN g60 b63) <|
      nn_ (gR g60 a0 0) fun b67 =>
      wk_ g60 b67 3 <|
      nn_ (gR g60 a0 0) fun b70 =>
      wk_ g60 b70 3 <|
      ob_ (X1_kept (r61 - (gI g60 b63 (x1 - 1).toNatClampNeg)) (-(gI g60 b67 2)) (gI g60 b70 2)) fun r74 =>
      X11_run_j152 a0 x1 r32 b52 x1 ((gI (pI g47 b39 x1.toNatClampNeg r48) b55 (x1 - 1).toNatClampNeg) + r74) g60
/-- RingHand$Take.run()LRingHand$Take; -/
def X11_run (a0 : Nat) (g : GS) : Option (Nat × GS) :=
  ob_ (lp_ (fun a => X11_run_b2 a0 a.1 a.2) fu_ (0, g)) fun e86 =>
  some (a0, e86)
/-- RingHand$Take.isSharp(II)Z -/
def X11_isSharp (a0 : Nat) (x1 : Int32) (x2 : Int32) (g : GS) : Option (Int32) :=
  wk_ g a0 10 <|
  nn_ (gR g a0 3) fun b2 =>
  rk_ g b2 100 <|
  in_ x1 (gN g b2) <|
  if x2 < (jabs_ (gI g b2 x1.toNatClampNeg)) then
  some 0
else
  some 1
def X11_sharp_2_j30 (a0 : Nat) (x1 : Int32) (x2 : Int32) (x3 : Int32) (g : GS) : Option ((Int32 × Int32) ⊕ (Int32)) :=
  some (.inl (x2, x3 + 1))
def X11_sharp_2_b4 (a0 : Nat) (x1 : Int32) (g : GS) (x2 : Int32) (x3 : Int32) : Option ((Int32 × Int32) ⊕ (Int32)) :=
  wk_ g a0 10 <|
  nn_ (gR g a0 7) fun b2 =>
  wk_ g b2 1 <|
  nn_ (gR g b2 0) fun b5 =>
  wk_ g b5 2 <|
  if (gI g b5 6) < x3 then
  some (.inr x2)
else
  ob_ (X11_isSharp a0 x3 x1 g) fun r10 =>
    if r10 = 0 then
    X11_sharp_2_j30 a0 x1 x2 x3 g
  else
    X11_sharp_2_j30 a0 x1 (x2 + 1) x3 g
/-- RingHand$Take.sharp(I)I -/
def X11_sharp_2 (a0 : Nat) (x1 : Int32) (g : GS) : Option (Int32) :=
  ob_ (lp_ (fun a => X11_sharp_2_b4 a0 x1 g a.1 a.2) fu_ (0, 0)) fun e12 =>
  some e12
/-- RingHand$Take.sharp()I -/
def X11_sharp (a0 : Nat) (g : GS) : Option (Int32) :=
  wk_ g a0 10 <|
  nn_ (gR g a0 0) fun b2 =>
  wk_ g b2 3 <|
  ob_ (X11_sharp_2 a0 (gI g b2 0) g) fun r6 =>
  some r6
def X11_worst_b4 (a0 : Nat) (g : GS) (x1 : Int32) (x2 : Int32) : Option ((Int32 × Int32) ⊕ (Int32)) :=
  wk_ g a0 10 <|
  nn_ (gR g a0 7) fun b2 =>
  wk_ g b2 1 <|
  nn_ (gR g b2 0) fun b5 =>
  wk_ g b5 2 <|
  if (gI g b5 6) < x2 then
  some (.inr x1)
else
  nn_ (gR g a0 3) fun b9 =>
    rk_ g b9 100 <|
    in_ x2 (gN g b9) <|
    some (.inl (jmax_ x1 (jabs_ (gI g b9 x2.toNatClampNeg)), x2 + 1))
/-- RingHand$Take.worst()I -/
def X11_worst (a0 : Nat) (g : GS) : Option (Int32) :=
  ob_ (lp_ (fun a => X11_worst_b4 a0 g a.1 a.2) fu_ (0, 0)) fun e13 =>
  some e13
/-- RingHand$Take.isSharp(I)Z -/
def X11_isSharp_2 (a0 : Nat) (x1 : Int32) (g : GS) : Option (Int32) :=
  wk_ g a0 10 <|
  nn_ (gR g a0 0) fun b2 =>
  wk_ g b2 3 <|
  ob_ (X11_isSharp a0 x1 (gI g b2 0) g) fun r6 =>
  some (zb_ r6)
def X11_longestSoft_j35 (a0 : Nat) (x1 : Int32) (x3 : Int32) (t0 : Int32) (g : GS) : Option ((Int32 × Int32 × Int32) ⊕ (Int32)) :=
  some (.inl (jmax_ x1 t0, t0, x3 + 1))
def X11_longestSoft_b6 (a0 : Nat) (g : GS) (x1 : Int32) (x2 : Int32) (x3 : Int32) : Option ((Int32 × Int32 × Int32) ⊕ (Int32)) :=
  wk_ g a0 10 <|
  nn_ (gR g a0 7) fun b2 =>
  wk_ g b2 1 <|
  nn_ (gR g b2 0) fun b5 =>
  wk_ g b5 2 <|
  if (gI g b5 6) < x3 then
  some (.inr x1)
else
  ob_ (X11_isSharp_2 a0 x3 g) fun r10 =>
    if r10 = 0 then
    X11_longestSoft_j35 a0 x1 x3 (x2 + 1) g
  else
    X11_longestSoft_j35 a0 x1 x3 0 g
/-- RingHand$Take.longestSoft()I -/
def X11_longestSoft (a0 : Nat) (g : GS) : Option (Int32) :=
  ob_ (lp_ (fun a => X11_longestSoft_b6 a0 g a.1 a.2.1 a.2.2) fu_ (0, 0, 0)) fun e12 =>
  some e12
def X11_firstSoft_b2 (a0 : Nat) (g : GS) (x1 : Int32) : Option ((Int32) ⊕ (((Int32) ⊕ (Unit)))) :=
  wk_ g a0 10 <|
  nn_ (gR g a0 7) fun b2 =>
  wk_ g b2 1 <|
  nn_ (gR g b2 0) fun b5 =>
  wk_ g b5 2 <|
  if (gI g b5 6) < x1 then
  some (.inr (.inr ()))
else
  ob_ (X11_isSharp_2 a0 x1 g) fun r10 =>
    if r10 = 0 then
    some (.inr (.inl x1))
  else
    some (.inl (x1 + 1))
/-- RingHand$Take.firstSoft()I -/
def X11_firstSoft (a0 : Nat) (g : GS) : Option (Int32) :=
  ob_ (lp_ (fun a => X11_firstSoft_b2 a0 g a) fu_ 0) fun e12 =>
  Sum.elim (fun e12a => some e12a) (fun e12b => some (-1)) e12
def X11_swings_j52 (a0 : Nat) (x1 : Int32) (x2 : Int32) (x3 : Int32) (g : GS) : Option ((Int32 × Int32 × Int32) ⊕ (Int32)) :=
  some (.inl (x1, x2, x3 + 1))
def X11_swings_j49 (a0 : Nat) (x1 : Int32) (x3 : Int32) (x4 : Int32) (g : GS) : Option ((Int32 × Int32 × Int32) ⊕ (Int32)) :=
  X11_swings_j52 a0 x1 x4 x3 g
def X11_swings_b6 (a0 : Nat) (g : GS) (x1 : Int32) (x2 : Int32) (x3 : Int32) : Option ((Int32 × Int32 × Int32) ⊕ (Int32)) :=
  wk_ g a0 10 <|
  nn_ (gR g a0 7) fun b2 =>
  wk_ g b2 1 <|
  nn_ (gR g b2 0) fun b5 =>
  wk_ g b5 2 <|
  if (gI g b5 6) < x3 then
  some (.inr x1)
else
  nn_ (gR g a0 3) fun b9 =>
    rk_ g b9 100 <|
    in_ x3 (gN g b9) <|
    ob_ (J19_signum (gI g b9 x3.toNatClampNeg)) fun r14 =>
    if r14 = 0 then
    X11_swings_j52 a0 x1 x2 x3 g
  else
    if x2 = (-r14) then
      X11_swings_j49 a0 (x1 + 1) x3 r14 g
    else
      X11_swings_j49 a0 x1 x3 r14 g
/-- RingHand$Take.swings()I -/
def X11_swings (a0 : Nat) (g : GS) : Option (Int32) :=
  ob_ (lp_ (fun a => X11_swings_b6 a0 g a.1 a.2.1 a.2.2) fu_ (0, 0, 0)) fun e17 =>
  some e17
/-- RingHand$Take.shows(I)Z -/
def X11_shows (a0 : Nat) (x1 : Int32) (g : GS) : Option (Int32 × GS) :=
  wk_ g a0 10 <|
  ob_ (X11_isSharp_2 a0 x1 g) fun r3 =>
  if r3 = 0 then
  nn_ (gR g a0 7) fun b5 =>
    wk_ g b5 1 <|
    nn_ (gR g b5 0) fun b8 =>
    wk_ g b8 2 <|
    if (gR g b8 4) = 0 then
    some (1, g)
  else
    nn_ (gR g a0 7) fun b12 =>
      wk_ g b12 1 <|
      nn_ (gR g b12 2) fun b15 =>
      nn_ (gR g a0 3) fun b17 =>
      rk_ g b17 100 <|
      in_ x1 (gN g b17) <|
      wk_ g b15 100 <|
      in_ 0 (gN g b15) <|
      nn_ (gR (pI g b15 (0 : Int32).toNatClampNeg (jabs_ (gI g b17 x1.toNatClampNeg))) a0 7) fun b23 =>
      wk_ (pI g b15 (0 : Int32).toNatClampNeg (jabs_ (gI g b17 x1.toNatClampNeg))) b23 1 <|
      nn_ (gR (pI g b15 (0 : Int32).toNatClampNeg (jabs_ (gI g b17 x1.toNatClampNeg))) b23 2) fun b26 =>
      nn_ (gR (pI g b15 (0 : Int32).toNatClampNeg (jabs_ (gI g b17 x1.toNatClampNeg))) a0 0) fun b28 =>
      wk_ (pI g b15 (0 : Int32).toNatClampNeg (jabs_ (gI g b17 x1.toNatClampNeg))) b28 3 <|
      wk_ (pI g b15 (0 : Int32).toNatClampNeg (jabs_ (gI g b17 x1.toNatClampNeg))) b26 100 <|
      in_ 1 (gN (pI g b15 (0 : Int32).toNatClampNeg (jabs_ (gI g b17 x1.toNatClampNeg))) b26) <|
      nn_ (gR (pI (pI g b15 (0 : Int32).toNatClampNeg (jabs_ (gI g b17 x1.toNatClampNeg))) b26 (1 : Int32).toNatClampNeg (gI (pI g b15 (0 : Int32).toNatClampNeg (jabs_ (gI g b17 x1.toNatClampNeg))) b28 0)) a0 7) fun b33 =>
      wk_ (pI (pI g b15 (0 : Int32).toNatClampNeg (jabs_ (gI g b17 x1.toNatClampNeg))) b26 (1 : Int32).toNatClampNeg (gI (pI g b15 (0 : Int32).toNatClampNeg (jabs_ (gI g b17 x1.toNatClampNeg))) b28 0)) b33 1 <|
      nn_ (gR (pI (pI g b15 (0 : Int32).toNatClampNeg (jabs_ (gI g b17 x1.toNatClampNeg))) b26 (1 : Int32).toNatClampNeg (gI (pI g b15 (0 : Int32).toNatClampNeg (jabs_ (gI g b17 x1.toNatClampNeg))) b28 0)) b33 2) fun b36 =>
      nn_ (gR (pI (pI g b15 (0 : Int32).toNatClampNeg (jabs_ (gI g b17 x1.toNatClampNeg))) b26 (1 : Int32).toNatClampNeg (gI (pI g b15 (0 : Int32).toNatClampNeg (jabs_ (gI g b17 x1.toNatClampNeg))) b28 0)) a0 7) fun b38 =>
      wk_ (pI (pI g b15 (0 : Int32).toNatClampNeg (jabs_ (gI g b17 x1.toNatClampNeg))) b26 (1 : Int32).toNatClampNeg (gI (pI g b15 (0 : Int32).toNatClampNeg (jabs_ (gI g b17 x1.toNatClampNeg))) b28 0)) b38 1 <|
      nn_ (gR (pI (pI g b15 (0 : Int32).toNatClampNeg (jabs_ (gI g b17 x1.toNatClampNeg))) b26 (1 : Int32).toNatClampNeg (gI (pI g b15 (0 : Int32).toNatClampNeg (jabs_ (gI g b17 x1.toNatClampNeg))) b28 0)) b38 0) fun b41 =>
      wk_ (pI (pI g b15 (0 : Int32).toNatClampNeg (jabs_ (gI g b17 x1.toNatClampNeg))) b26 (1 : Int32).toNatClampNeg (gI (pI g b15 (0 : Int32).toNatClampNeg (jabs_ (gI g b17 x1.toNatClampNeg))) b28 0)) b41 2 <|
      ob_ (X2_isHis b41 x1 (pI (pI g b15 (0 : Int32).toNatClampNeg (jabs_ (gI g b17 x1.toNatClampNeg))) b26 (1 : Int32).toNatClampNeg (gI (pI g b15 (0 : Int32).toNatClampNeg (jabs_ (gI g b17 x1.toNatClampNeg))) b28 0))) fun r45 =>
      ob_ (X11_inches a0 x1 r45 (pI (pI g b15 (0 : Int32).toNatClampNeg (jabs_ (gI g b17 x1.toNatClampNeg))) b26 (1 : Int32).toNatClampNeg (gI (pI g b15 (0 : Int32).toNatClampNeg (jabs_ (gI g b17 x1.toNatClampNeg))) b28 0))) fun r47 =>
      wk_ (pI (pI g b15 (0 : Int32).toNatClampNeg (jabs_ (gI g b17 x1.toNatClampNeg))) b26 (1 : Int32).toNatClampNeg (gI (pI g b15 (0 : Int32).toNatClampNeg (jabs_ (gI g b17 x1.toNatClampNeg))) b28 0)) b36 100 <|
      in_ 2 (gN (pI (pI g b15 (0 : Int32).toNatClampNeg (jabs_ (gI g b17 x1.toNatClampNeg))) b26 (1 : Int32).toNatClampNeg (gI (pI g b15 (0 : Int32).toNatClampNeg (jabs_ (gI g b17 x1.toNatClampNeg))) b28 0)) b36) <|
      nn_ (gR (pI (pI (pI g b15 (0 : Int32).toNatClampNeg (jabs_ (gI g b17 x1.toNatClampNeg))) b26 (1 : Int32).toNatClampNeg (gI (pI g b15 (0 : Int32).toNatClampNeg (jabs_ (gI g b17 x1.toNatClampNeg))) b28 0)) b36 (2 : Int32).toNatClampNeg r47) a0 7) fun b50 =>
      wk_ (pI (pI (pI g b15 (0 : Int32).toNatClampNeg (jabs_ (gI g b17 x1.toNatClampNeg))) b26 (1 : Int32).toNatClampNeg (gI (pI g b15 (0 : Int32).toNatClampNeg (jabs_ (gI g b17 x1.toNatClampNeg))) b28 0)) b36 (2 : Int32).toNatClampNeg r47) b50 1 <|
      nn_ (gR (pI (pI (pI g b15 (0 : Int32).toNatClampNeg (jabs_ (gI g b17 x1.toNatClampNeg))) b26 (1 : Int32).toNatClampNeg (gI (pI g b15 (0 : Int32).toNatClampNeg (jabs_ (gI g b17 x1.toNatClampNeg))) b28 0)) b36 (2 : Int32).toNatClampNeg r47) b50 0) fun b53 =>
      wk_ (pI (pI (pI g b15 (0 : Int32).toNatClampNeg (jabs_ (gI g b17 x1.toNatClampNeg))) b26 (1 : Int32).toNatClampNeg (gI (pI g b15 (0 : Int32).toNatClampNeg (jabs_ (gI g b17 x1.toNatClampNeg))) b28 0)) b36 (2 : Int32).toNatClampNeg r47) b53 2 <|
      nn_ (gR (pI (pI (pI g b15 (0 : Int32).toNatClampNeg (jabs_ (gI g b17 x1.toNatClampNeg))) b26 (1 : Int32).toNatClampNeg (gI (pI g b15 (0 : Int32).toNatClampNeg (jabs_ (gI g b17 x1.toNatClampNeg))) b28 0)) b36 (2 : Int32).toNatClampNeg r47) b53 4) fun b56 =>
      nn_ (gR (pI (pI (pI g b15 (0 : Int32).toNatClampNeg (jabs_ (gI g b17 x1.toNatClampNeg))) b26 (1 : Int32).toNatClampNeg (gI (pI g b15 (0 : Int32).toNatClampNeg (jabs_ (gI g b17 x1.toNatClampNeg))) b28 0)) b36 (2 : Int32).toNatClampNeg r47) a0 7) fun b58 =>
      wk_ (pI (pI (pI g b15 (0 : Int32).toNatClampNeg (jabs_ (gI g b17 x1.toNatClampNeg))) b26 (1 : Int32).toNatClampNeg (gI (pI g b15 (0 : Int32).toNatClampNeg (jabs_ (gI g b17 x1.toNatClampNeg))) b28 0)) b36 (2 : Int32).toNatClampNeg r47) b58 1 <|
      nn_ (gR (pI (pI (pI g b15 (0 : Int32).toNatClampNeg (jabs_ (gI g b17 x1.toNatClampNeg))) b26 (1 : Int32).toNatClampNeg (gI (pI g b15 (0 : Int32).toNatClampNeg (jabs_ (gI g b17 x1.toNatClampNeg))) b28 0)) b36 (2 : Int32).toNatClampNeg r47) b58 2) fun b61 =>
      ob_ (Fof_ ff_ b56 b61 (pI (pI (pI g b15 (0 : Int32).toNatClampNeg (jabs_ (gI g b17 x1.toNatClampNeg))) b26 (1 : Int32).toNatClampNeg (gI (pI g b15 (0 : Int32).toNatClampNeg (jabs_ (gI g b17 x1.toNatClampNeg))) b28 0)) b36 (2 : Int32).toNatClampNeg r47)) fun r63 =>
      if r63 ≤ 0 then
      some (0, pI (pI (pI g b15 (0 : Int32).toNatClampNeg (jabs_ (gI g b17 x1.toNatClampNeg))) b26 (1 : Int32).toNatClampNeg (gI (pI g b15 (0 : Int32).toNatClampNeg (jabs_ (gI g b17 x1.toNatClampNeg))) b28 0)) b36 (2 : Int32).toNatClampNeg r47)
    else
      some (1, pI (pI (pI g b15 (0 : Int32).toNatClampNeg (jabs_ (gI g b17 x1.toNatClampNeg))) b26 (1 : Int32).toNatClampNeg (gI (pI g b15 (0 : Int32).toNatClampNeg (jabs_ (gI g b17 x1.toNatClampNeg))) b28 0)) b36 (2 : Int32).toNatClampNeg r47)
else
  some (0, g)
def X11_shown_j29 (a0 : Nat) (x1 : Int32) (x2 : Int32) (g : GS) : Option ((Int32 × Int32 × GS) ⊕ (Int32 × GS)) :=
  some (.inl (x1, x2 + 1, g))
def X11_shown_b4 (a0 : Nat) (x1 : Int32) (x2 : Int32) (g : GS) : Option ((Int32 × Int32 × GS) ⊕ (Int32 × GS)) :=
  wk_ g a0 10 <|
  nn_ (gR g a0 7) fun b2 =>
  wk_ g b2 1 <|
  nn_ (gR g b2 0) fun b5 =>
  wk_ g b5 2 <|
  if (gI g b5 6) < x2 then
  some (.inr (x1, g))
else
  cb_ (X11_shows a0 x2 g) fun r11 g10 =>
    if r11 = 0 then
    X11_shown_j29 a0 x1 x2 g10
  else
    X11_shown_j29 a0 (x1 + 1) x2 g10
/-- RingHand$Take.shown()I -/
def X11_shown (a0 : Nat) (g : GS) : Option (Int32 × GS) :=
  ob_ (lp_ (fun a => X11_shown_b4 a0 a.1 a.2.1 a.2.2) fu_ (0, 0, g)) fun e13 =>
  some (e13.1, e13.2)
def X11_turned_b4 (a0 : Nat) (g : GS) (x1 : Int32) (x2 : Int32) : Option ((Int32 × Int32) ⊕ (Int32)) :=
  wk_ g a0 10 <|
  nn_ (gR g a0 7) fun b2 =>
  wk_ g b2 1 <|
  nn_ (gR g b2 0) fun b5 =>
  wk_ g b5 2 <|
  if (gI g b5 6) < x2 then
  some (.inr x1)
else
  nn_ (gR g a0 2) fun b9 =>
    rk_ g b9 100 <|
    in_ x2 (gN g b9) <|
    nn_ (gR g a0 2) fun b13 =>
    rk_ g b13 100 <|
    in_ (x2 - 1) (gN g b13) <|
    some (.inl (x1 + (jabs_ ((gI g b9 x2.toNatClampNeg) - (gI g b13 (x2 - 1).toNatClampNeg))), x2 + 1))
/-- RingHand$Take.turned()I -/
def X11_turned (a0 : Nat) (g : GS) : Option (Int32) :=
  ob_ (lp_ (fun a => X11_turned_b4 a0 g a.1 a.2) fu_ (0, 1)) fun e17 =>
  some e17
def X11_isAsSeen_j67 (a0 : Nat) (x1 : Int32) (t0 : Int32) (t1 : Int32) (g : GS) : Option ((Int32) ⊕ (((Unit) ⊕ (Unit)))) :=
  if t0 = t1 then
  some (.inl (x1 + 1))
else
  some (.inr (.inl ()))
def X11_isAsSeen_b2 (a0 : Nat) (g : GS) (x1 : Int32) : Option ((Int32) ⊕ (((Unit) ⊕ (Unit)))) :=
  wk_ g a0 10 <|
  nn_ (gR g a0 7) fun b2 =>
  wk_ g b2 1 <|
  nn_ (gR g b2 8) fun b5 =>
  wk_ g b5 12 <|
  ob_ (J2_size b5 g) fun r9 =>
  if r9 ≤ x1 then
  some (.inr (.inr ()))
else
  nn_ (gR g a0 7) fun b11 =>
    wk_ g b11 1 <|
    nn_ (gR g b11 8) fun b14 =>
    wk_ g b14 12 <|
    ob_ (J2_get b14 x1 g) fun r18 =>
    rk_ g r18 100 <|
    in_ 0 (gN g r18) <|
    ob_ (X11_isSharp_2 a0 (gI g r18 (0 : Int32).toNatClampNeg) g) fun r22 =>
    nn_ (gR g a0 7) fun b23 =>
    wk_ g b23 1 <|
    nn_ (gR g b23 8) fun b26 =>
    wk_ g b26 12 <|
    ob_ (J2_get b26 x1 g) fun r30 =>
    rk_ g r30 100 <|
    in_ 1 (gN g r30) <|
    if (gI g r30 (1 : Int32).toNatClampNeg) = 1 then
    X11_isAsSeen_j67 a0 x1 r22 1 g
  else
    X11_isAsSeen_j67 a0 x1 r22 0 g
/-- RingHand$Take.isAsSeen()Z -/
def X11_isAsSeen (a0 : Nat) (g : GS) : Option (Int32) :=
  ob_ (lp_ (fun a => X11_isAsSeen_b2 a0 g a) fu_ 0) fun e35 =>
  Sum.elim (fun e35a => some 0) (fun e35b => some 1) e35

/-! PURE, printed out of the bytecode by wip/D-98610w/gen/comp.py -/
set_option maxRecDepth 100000

/-- RingHand$Chalks.<init>(LRingHand;)V -/
def X12_init (a0 : Nat) (a1 : Nat) (g : GS) : Option ((Unit × GS) × Nat × Nat) :=
  wk_ g a0 11 <|
  nn_ (gR (pR g a0 4 (a1 + 1)) a0 4) fun b2 =>
  wk_ (pR g a0 4 (a1 + 1)) b2 1 <|
  nn_ (gR (pR g a0 4 (a1 + 1)) b2 0) fun b5 =>
  wk_ (pR g a0 4 (a1 + 1)) b5 2 <|
  ca_ (X2_places b5 (pR g a0 4 (a1 + 1))) fun r10 g9 =>
  wk_ g9 a0 11 <|
  al_ (pR g9 a0 0 (r10 + 1)) 10 8 fun u14 g15 =>
  wk_ g15 a0 11 <|
  nn_ (gR g15 a0 4) fun b19 =>
  nn_ (gR g15 a0 4) fun b21 =>
  wk_ g15 b21 1 <|
  nn_ (gR g15 b21 1) fun b24 =>
  wk_ g15 b24 3 <|
  ca_ (X3_copy b24 g15) fun r29 g28 =>
  ca_ (X11_init u14 b19 r29 g28) fun r34 g33 =>
  wk_ g33 a0 11 <|
  some (((), pI (pR g33 a0 1 (u14 + 1)) a0 3 (-1)), 0, 0)
def X12_go_b53 (rec : Nat → Int32 → Int32 → GS → Option ((Unit × GS) × Nat × Nat)) (a0 : Nat) (x2 : Int32) (x3 : Int32) (g : GS) : Option (((Int32 × GS) ⊕ (GS)) × Nat × Nat) :=
  wk_ g a0 11 <|
  nn_ (gR g a0 0) fun b3 =>
  wk_ g b3 12 <|
  ob_ (J2_size b3 g) fun r7 =>
  if r7 < (x3 + x2) then
  some (.inr g, 0, 0)
else
  nn_ (gR g a0 1) fun b9 =>
    wk_ g b9 10 <|
    nn_ (gR g b9 0) fun b12 =>
    wk_ g b12 3 <|
    nn_ (gR g b12 6) fun b15 =>
    nn_ (gR g a0 0) fun b17 =>
    wk_ g b17 12 <|
    ob_ (J2_get b17 x3 g) fun r21 =>
    rk_ g r21 14 <|
    wk_ g b15 12 <|
    ca_ (J2_add b15 r21 g) fun r26 g25 =>
    wk_ g25 a0 11 <|
    ca_ (rec a0 (x3 + 1) (x2 - 1) g25) fun r32 g31 =>
    wk_ g31 a0 11 <|
    nn_ (gR g31 a0 1) fun b36 =>
    wk_ g31 b36 10 <|
    nn_ (gR g31 b36 0) fun b39 =>
    wk_ g31 b39 3 <|
    nn_ (gR g31 b39 6) fun b42 =>
    nn_ (gR g31 a0 1) fun b44 =>
    wk_ g31 b44 10 <|
    nn_ (gR g31 b44 0) fun b47 =>
    wk_ g31 b47 3 <|
    nn_ (gR g31 b47 6) fun b50 =>
    wk_ g31 b50 12 <|
    ob_ (J2_size b50 g31) fun r54 =>
    wk_ g31 b42 12 <|
    cb_ (J2_remove b42 (r54 - 1) g31) fun r58 g57 =>
    some (.inl (x3 + 1, g57), 0, 0)
/-- RingHand$Chalks.go(II)V -/
def X12_go_b (rec : Nat → Int32 → Int32 → GS → Option ((Unit × GS) × Nat × Nat)) (a0 : Nat) (x1 : Int32) (x2 : Int32) (g : GS) : Option ((Unit × GS) × Nat × Nat) :=
  if x2 = 0 then
  wk_ g a0 11 <|
    nn_ (gR g a0 1) fun b63 =>
    wk_ g b63 10 <|
    cb_ (X11_run b63 g) fun r68 g67 =>
    wk_ g67 r68 10 <|
    ob_ (X11_sharp r68 g67) fun r71 =>
    wk_ g67 a0 11 <|
    if (gI g67 a0 3) < r71 then
    al_ (pI g67 a0 3 r71) 12 3 fun u74 g75 =>
      wk_ g75 a0 11 <|
      nn_ (gR g75 a0 1) fun b79 =>
      wk_ g75 b79 10 <|
      nn_ (gR g75 b79 0) fun b82 =>
      wk_ g75 b82 3 <|
      nn_ (gR g75 b82 6) fun b85 =>
      ca_ (J2_init_2 u74 b85 g75) fun r89 g88 =>
      wk_ g88 a0 11 <|
      some (((), pR g88 a0 2 (u74 + 1)), 0, 0)
  else
    some (((), g67), 0, 0)
else
  oa_ (la_ (fun a => X12_go_b53 rec a0 x2 a.1 a.2) fu_ (x1, g)) fun e59 =>
    some (((), e59), 0, 0)
def X12_go_r : Nat → Nat → Int32 → Int32 → GS → Option ((Unit × GS) × Nat × Nat)
  | 0, _, _, _, _ => none
  | n + 1, a0, x1, x2, g => X12_go_b (X12_go_r n) a0 x1 x2 g
def X12_go (a0 : Nat) (x1 : Int32) (x2 : Int32) (g : GS) : Option ((Unit × GS) × Nat × Nat) := X12_go_r 5 a0 x1 x2 g
/-- RingHand.common(II)I -/
def X1_common_b (rec : Int32 → Int32 → Option (Int32)) (x0 : Int32) (x1 : Int32) : Option (Int32) :=
  if x1 = 0 then
  some x0
else
  dv_ x1 <|
    ob_ (rec x1 (x0 - x0 / x1 * x1)) fun r4 =>
    some r4
def X1_common_r : Nat → Int32 → Int32 → Option (Int32)
  | 0, _, _ => none
  | n + 1, x0, x1 => X1_common_b (X1_common_r n) x0 x1
def X1_common (x0 : Int32) (x1 : Int32) : Option (Int32) := X1_common_r 40 x0 x1
def X1_part_j15 (x0 : Int32) (x1 : Int32) (t0 : Int32) : Option (Int32) :=
  ob_ (X1_common x1 x0) fun r4 =>
  dv_ r4 <|
  some (t0 / r4)
/-- RingHand.part(III)I -/
def X1_part (x0 : Int32) (x1 : Int32) (x2 : Int32) : Option (Int32) :=
  if x1 = 0 then
  some x2
else
  if x2 = 0 then
    X1_part_j15 x0 x1 x0
  else
    X1_part_j15 x0 x1 x1
def J3_init_2_j41 (a0 : Nat) (x3 : Int32) (g : GS) : Option (GS) :=
  wk_ g a0 5 <|
  if x3 = 0 then
  some (pR (pR (pR g a0 3 0) a0 0 0) a0 2 0)
else
  some (pR (pR g a0 3 0) a0 0 0)
/-- java/lang/Throwable.<init>(Ljava/lang/String;Ljava/lang/Throwable;ZZ)V -/
def J3_init_2 (a0 : Nat) (x3 : Int32) (x4 : Int32) (g : GS) : Option (GS) :=
  wk_ g a0 5 <|
  nn_ (gS (pR g a0 0 (a0 + 1)) 3) fun b2 =>
  nn_ (gS (pR (pR g a0 0 (a0 + 1)) a0 1 (b2 + 1)) 4) fun b4 =>
  if x4 = 0 then
  J3_init_2_j41 a0 x3 (pR (pR (pR (pR g a0 0 (a0 + 1)) a0 1 (b2 + 1)) a0 2 (b4 + 1)) a0 1 0)
else
  none
/-- java/lang/Exception.<init>(Ljava/lang/String;Ljava/lang/Throwable;ZZ)V -/
def J4_init_2 (a0 : Nat) (x3 : Int32) (x4 : Int32) (g : GS) : Option (GS) :=
  ob_ (J3_init_2 a0 x3 x4 g) fun g2 =>
  some g2
/-- RingHand$Wrong.<init>(I)V -/
def X6_init (a0 : Nat) (x1 : Int32) (g : GS) : Option (GS) :=
  ob_ (J4_init_2 a0 0 0 g) fun g2 =>
  wk_ g2 a0 5 <|
  some (pI g2 a0 6 x1)
/-- RingHand$Reader.here()I -/
def X5_here (a0 : Nat) (g : GS) : Option (Int32) :=
  wk_ g a0 4 <|
  if (gI g a0 0) ≤ (gI g a0 8) then
  some (-1)
else
  nn_ (gR g a0 14) fun b3 =>
    wk_ g b3 1 <|
    nn_ (gR g b3 3) fun b6 =>
    rk_ g b6 101 <|
    in_ (gI g a0 8) (gN g b6) <|
    some ((gI g b6 (gI g a0 8).toNatClampNeg) &&& 255)
/-- RingHand.in(III)Z -/
def X1_in (x0 : Int32) (x1 : Int32) (x2 : Int32) : Option (Int32) :=
  if x0 < x1 then
  some 0
else
  if x2 < x0 then
    some 0
  else
    some 1
/-- RingHand$Reader.isLetter()Z -/
def X5_isLetter (a0 : Nat) (g : GS) : Option (Int32) :=
  wk_ g a0 4 <|
  ob_ (X5_here a0 g) fun r3 =>
  ob_ (X1_in r3 97 122) fun r5 =>
  some (zb_ r5)
/-- RingHand$Reader.isDigit()Z -/
def X5_isDigit (a0 : Nat) (g : GS) : Option (Int32) :=
  wk_ g a0 4 <|
  ob_ (X5_here a0 g) fun r3 =>
  ob_ (X1_in r3 48 57) fun r5 =>
  some (zb_ r5)
def X5_next_j18 (a0 : Nat) (g : GS) : Option ((GS) ⊕ (GS)) :=
  wk_ g a0 4 <|
  some (.inl (pI g a0 8 ((gI g a0 8) + 1)))
def X5_next_b0 (a0 : Nat) (g : GS) : Option ((GS) ⊕ (GS)) :=
  wk_ g a0 4 <|
  ob_ (X5_here a0 g) fun r3 =>
  if r3 = 32 then
  X5_next_j18 a0 g
else
  ob_ (X5_here a0 g) fun r7 =>
    if r7 = 10 then
    X5_next_j18 a0 g
  else
    some (.inr g)
def X5_next_j185 (a0 : Nat) (g : GS) : Option (GS) :=
  wk_ g a0 4 <|
  some (pI g a0 11 (gI g a0 8))
def X5_next_j172 (a0 : Nat) (t0 : Nat) (t1 : Int32) (g : GS) : Option (GS) :=
  wk_ g t0 4 <|
  wk_ (pI g t0 9 t1) a0 4 <|
  X5_next_j185 a0 (pI (pI g t0 9 t1) a0 8 ((gI (pI g t0 9 t1) a0 8) + 1))
def X5_next_b102 (a0 : Nat) (g : GS) : Option ((GS) ⊕ (GS)) :=
  wk_ g a0 4 <|
  ob_ (X5_isDigit a0 g) fun r31 =>
  if r31 = 0 then
  some (.inr g)
else
  ob_ (X5_here a0 g) fun r34 =>
    nm_ (pI (pI g a0 12 (jmin_ 100000 (((10 * (gI g a0 12)) + r34) - 48))) a0 8 ((gI (pI g a0 12 (jmin_ 100000 (((10 * (gI g a0 12)) + r34) - 48))) a0 8) + 1)) fun g35 =>
    some (.inl g35)
def X5_next_b62 (a0 : Nat) (g : GS) : Option ((GS) ⊕ (GS)) :=
  wk_ g a0 4 <|
  ob_ (X5_isLetter a0 g) fun r42 =>
  if r42 = 0 then
  some (.inr g)
else
  some (.inl (pI g a0 8 ((gI g a0 8) + 1)))
/-- RingHand$Reader.next()V -/
def X5_next (a0 : Nat) (g : GS) : Option (GS) :=
  ob_ (lp_ (fun a => X5_next_b0 a0 a) fu_ g) fun e9 =>
  wk_ e9 a0 4 <|
  ob_ (X5_here a0 (pI e9 a0 10 (gI e9 a0 8))) fun r12 =>
  if r12 = (-1) then
  X5_next_j185 a0 (pI (pI e9 a0 10 (gI e9 a0 8)) a0 9 0)
else
  ob_ (X5_isLetter a0 (pI e9 a0 10 (gI e9 a0 8))) fun r15 =>
    if r15 = 0 then
    ob_ (X5_isDigit a0 (pI e9 a0 10 (gI e9 a0 8))) fun r18 =>
      if r18 = 0 then
      ob_ (X5_here a0 (pI e9 a0 10 (gI e9 a0 8))) fun r21 =>
        rk_ (pI e9 a0 10 (gI e9 a0 8)) (gS (pI e9 a0 10 (gI e9 a0 8)) 23) 200 <|
        ob_ (J8_indexOf (gS (pI e9 a0 10 (gI e9 a0 8)) 23) r21 (pI e9 a0 10 (gI e9 a0 8))) fun r24 =>
        if r24 < 0 then
        X5_next_j172 a0 a0 4 (pI e9 a0 10 (gI e9 a0 8))
      else
        X5_next_j172 a0 a0 3 (pI e9 a0 10 (gI e9 a0 8))
    else
      ob_ (lp_ (fun a => X5_next_b102 a0 a) fu_ (pI (pI e9 a0 10 (gI e9 a0 8)) a0 12 0)) fun e38 =>
        wk_ e38 a0 4 <|
        X5_next_j185 a0 (pI e38 a0 9 2)
  else
    ob_ (lp_ (fun a => X5_next_b62 a0 a) fu_ (pI e9 a0 10 (gI e9 a0 8))) fun e44 =>
      wk_ e44 a0 4 <|
      X5_next_j185 a0 (pI e44 a0 9 1)
def X5_is_b28 (a0 : Nat) (a1 : Nat) (g : GS) (x2 : Int32) : Option ((Int32) ⊕ (((Unit) ⊕ (Unit)))) :=
  rk_ g a1 200 <|
  ob_ (J8_length a1 g) fun r9 =>
  if r9 ≤ x2 then
  some (.inr (.inr ()))
else
  ob_ (J8_charAt a1 x2 g) fun r12 =>
    wk_ g a0 4 <|
    nn_ (gR g a0 14) fun b14 =>
    wk_ g b14 1 <|
    nn_ (gR g b14 3) fun b17 =>
    rk_ g b17 101 <|
    in_ ((gI g a0 10) + x2) (gN g b17) <|
    if r12 = ((gI g b17 ((gI g a0 10) + x2).toNatClampNeg) &&& 255) then
    some (.inl (x2 + 1))
  else
    some (.inr (.inl ()))
/-- RingHand$Reader.is(Ljava/lang/String;)Z -/
def X5_is (a0 : Nat) (a1 : Nat) (g : GS) : Option (Int32) :=
  wk_ g a0 4 <|
  if (gI g a0 9) = 1 then
  rk_ g a1 200 <|
    ob_ (J8_length a1 g) fun r5 =>
    if r5 = ((gI g a0 11) - (gI g a0 10)) then
    ob_ (lp_ (fun a => X5_is_b28 a0 a1 g a) fu_ 0) fun e22 =>
      Sum.elim (fun e22a => some 0) (fun e22b => some 1) e22
  else
    some 0
else
  some 0
def X5_which_b2 (a0 : Nat) (a1 : Nat) (g : GS) (x2 : Int32) : Option ((Int32) ⊕ (((Int32) ⊕ (Unit)))) :=
  rk_ g a1 104 <|
  if (Int32.ofNat (gN g a1)) ≤ x2 then
  some (.inr (.inr ()))
else
  in_ x2 (gN g a1) <|
    nn_ (gR g a1 x2.toNatClampNeg) fun b4 =>
    wk_ g a0 4 <|
    ob_ (X5_is a0 b4 g) fun r8 =>
    if r8 = 0 then
    some (.inl (x2 + 1))
  else
    some (.inr (.inl x2))
/-- RingHand$Reader.which([Ljava/lang/String;)I -/
def X5_which (a0 : Nat) (a1 : Nat) (g : GS) : Option (Int32) :=
  ob_ (lp_ (fun a => X5_which_b2 a0 a1 g a) fu_ 0) fun e10 =>
  Sum.elim (fun e10a => some e10a) (fun e10b => some (-1)) e10
/-- RingHand$Reader.isSign(C)Z -/
def X5_isSign (a0 : Nat) (x1 : Int32) (g : GS) : Option (Int32) :=
  wk_ g a0 4 <|
  if (gI g a0 9) = 3 then
  nn_ (gR g a0 14) fun b3 =>
    wk_ g b3 1 <|
    nn_ (gR g b3 3) fun b6 =>
    rk_ g b6 101 <|
    in_ (gI g a0 10) (gN g b6) <|
    if (gI g b6 (gI g a0 10).toNatClampNeg) = x1 then
    some 1
  else
    some 0
else
  some 0
/-- RingHand$Reader.passes(Ljava/lang/String;)Z -/
def X5_passes (a0 : Nat) (a1 : Nat) (g : GS) : Option (Int32 × GS) :=
  wk_ g a0 4 <|
  ob_ (X5_is a0 a1 g) fun r3 =>
  if r3 = 0 then
  some (zb_ r3, g)
else
  ob_ (X5_next a0 g) fun g6 =>
    some (zb_ r3, g6)
/-- RingHand$Reader.sign()C -/
def X5_sign (a0 : Nat) (g : GS) : Option (Int32 × GS) :=
  wk_ g a0 4 <|
  nn_ (gR g a0 14) fun b2 =>
  wk_ g b2 1 <|
  nn_ (gR g b2 3) fun b5 =>
  rk_ g b5 101 <|
  in_ (gI g a0 10) (gN g b5) <|
  ob_ (X5_next a0 g) fun g10 =>
  some (zc_ (((gI g b5 (gI g a0 10).toNatClampNeg).toUInt32 % 65536).toInt32), g10)
/-- RingHand$Reader.<init>(LRingHand;I)V -/
def X5_init (a0 : Nat) (a1 : Nat) (x2 : Int32) (g : GS) : Option ((Unit × GS) × Nat × Nat) :=
  wk_ g a0 4 <|
  al_ (pR g a0 14 (a1 + 1)) 2 7 fun u2 g3 =>
  ca_ (X2_init u2 g3) fun r8 g7 =>
  wk_ g7 a0 4 <|
  al_ (pR g7 a0 1 (u2 + 1)) 3 7 fun u12 g13 =>
  ca_ (X3_init u12 g13) fun r18 g17 =>
  wk_ g17 a0 4 <|
  na_ 7 <|
  al_ (pR g17 a0 2 (u12 + 1)) 104 ((7 : Int32).toNatClampNeg) fun u22 g23 =>
  in_ 0 (gN g23 u22) <|
  rk_ g23 (gS g23 10) 200 <|
  in_ 1 (gN (pR g23 u22 (0 : Int32).toNatClampNeg (gS g23 10 + 1)) u22) <|
  rk_ (pR g23 u22 (0 : Int32).toNatClampNeg (gS g23 10 + 1)) (gS (pR g23 u22 (0 : Int32).toNatClampNeg (gS g23 10 + 1)) 11) 200 <|
  nm_ (pR (pR g23 u22 (0 : Int32).toNatClampNeg (gS g23 10 + 1)) u22 (1 : Int32).toNatClampNeg (gS (pR g23 u22 (0 : Int32).toNatClampNeg (gS g23 10 + 1)) 11 + 1)) fun g31 =>
  in_ 2 (gN g31 u22) <|
  rk_ g31 (gS g31 12) 200 <|
  in_ 3 (gN (pR g31 u22 (2 : Int32).toNatClampNeg (gS g31 12 + 1)) u22) <|
  rk_ (pR g31 u22 (2 : Int32).toNatClampNeg (gS g31 12 + 1)) (gS (pR g31 u22 (2 : Int32).toNatClampNeg (gS g31 12 + 1)) 13) 200 <|
  nm_ (pR (pR g31 u22 (2 : Int32).toNatClampNeg (gS g31 12 + 1)) u22 (3 : Int32).toNatClampNeg (gS (pR g31 u22 (2 : Int32).toNatClampNeg (gS g31 12 + 1)) 13 + 1)) fun g40 =>
  in_ 4 (gN g40 u22) <|
  rk_ g40 (gS g40 14) 200 <|
  in_ 5 (gN (pR g40 u22 (4 : Int32).toNatClampNeg (gS g40 14 + 1)) u22) <|
  rk_ (pR g40 u22 (4 : Int32).toNatClampNeg (gS g40 14 + 1)) (gS (pR g40 u22 (4 : Int32).toNatClampNeg (gS g40 14 + 1)) 15) 200 <|
  nm_ (pR (pR g40 u22 (4 : Int32).toNatClampNeg (gS g40 14 + 1)) u22 (5 : Int32).toNatClampNeg (gS (pR g40 u22 (4 : Int32).toNatClampNeg (gS g40 14 + 1)) 15 + 1)) fun g51 =>
  in_ 6 (gN g51 u22) <|
  rk_ g51 (gS g51 16) 200 <|
  wk_ (pR g51 u22 (6 : Int32).toNatClampNeg (gS g51 16 + 1)) a0 4 <|
  na_ 1 <|
  al_ (pR (pR g51 u22 (6 : Int32).toNatClampNeg (gS g51 16 + 1)) a0 3 (u22 + 1)) 104 ((1 : Int32).toNatClampNeg) fun u63 g64 =>
  in_ 0 (gN g64 u63) <|
  rk_ g64 (gS g64 17) 200 <|
  wk_ (pR g64 u63 (0 : Int32).toNatClampNeg (gS g64 17 + 1)) a0 4 <|
  na_ 3 <|
  al_ (pR (pR g64 u63 (0 : Int32).toNatClampNeg (gS g64 17 + 1)) a0 4 (u63 + 1)) 104 ((3 : Int32).toNatClampNeg) fun u71 g72 =>
  in_ 0 (gN g72 u71) <|
  rk_ g72 (gS g72 18) 200 <|
  in_ 1 (gN (pR g72 u71 (0 : Int32).toNatClampNeg (gS g72 18 + 1)) u71) <|
  rk_ (pR g72 u71 (0 : Int32).toNatClampNeg (gS g72 18 + 1)) (gS (pR g72 u71 (0 : Int32).toNatClampNeg (gS g72 18 + 1)) 11) 200 <|
  nm_ (pR (pR g72 u71 (0 : Int32).toNatClampNeg (gS g72 18 + 1)) u71 (1 : Int32).toNatClampNeg (gS (pR g72 u71 (0 : Int32).toNatClampNeg (gS g72 18 + 1)) 11 + 1)) fun g80 =>
  in_ 2 (gN g80 u71) <|
  rk_ g80 (gS g80 17) 200 <|
  wk_ (pR g80 u71 (2 : Int32).toNatClampNeg (gS g80 17 + 1)) a0 4 <|
  na_ 5 <|
  al_ (pR (pR g80 u71 (2 : Int32).toNatClampNeg (gS g80 17 + 1)) a0 5 (u71 + 1)) 104 ((5 : Int32).toNatClampNeg) fun u88 g89 =>
  in_ 0 (gN g89 u88) <|
  rk_ g89 (gS g89 19) 200 <|
  in_ 1 (gN (pR g89 u88 (0 : Int32).toNatClampNeg (gS g89 19 + 1)) u88) <|
  rk_ (pR g89 u88 (0 : Int32).toNatClampNeg (gS g89 19 + 1)) (gS (pR g89 u88 (0 : Int32).toNatClampNeg (gS g89 19 + 1)) 20) 200 <|
  nm_ (pR (pR g89 u88 (0 : Int32).toNatClampNeg (gS g89 19 + 1)) u88 (1 : Int32).toNatClampNeg (gS (pR g89 u88 (0 : Int32).toNatClampNeg (gS g89 19 + 1)) 20 + 1)) fun g97 =>
  in_ 2 (gN g97 u88) <|
  rk_ g97 (gS g97 15) 200 <|
  in_ 3 (gN (pR g97 u88 (2 : Int32).toNatClampNeg (gS g97 15 + 1)) u88) <|
  rk_ (pR g97 u88 (2 : Int32).toNatClampNeg (gS g97 15 + 1)) (gS (pR g97 u88 (2 : Int32).toNatClampNeg (gS g97 15 + 1)) 21) 200 <|
  nm_ (pR (pR g97 u88 (2 : Int32).toNatClampNeg (gS g97 15 + 1)) u88 (3 : Int32).toNatClampNeg (gS (pR g97 u88 (2 : Int32).toNatClampNeg (gS g97 15 + 1)) 21 + 1)) fun g106 =>
  in_ 4 (gN g106 u88) <|
  rk_ g106 (gS g106 22) 200 <|
  wk_ (pR g106 u88 (4 : Int32).toNatClampNeg (gS g106 22 + 1)) a0 4 <|
  nn_ (gR (pR (pR g106 u88 (4 : Int32).toNatClampNeg (gS g106 22 + 1)) a0 6 (u88 + 1)) a0 4) fun b116 =>
  some (((), pI (pR (pR (pR g106 u88 (4 : Int32).toNatClampNeg (gS g106 22 + 1)) a0 6 (u88 + 1)) a0 7 (b116 + 1)) a0 0 x2), 0, 0)
/-- RingHand.take()LRingHand$Take; -/
def X1_take (a0 : Nat) (g : GS) : Option ((Nat × GS) × Nat × Nat) :=
  al_ g 10 8 fun u1 g2 =>
  wk_ g2 a0 1 <|
  nn_ (gR g2 a0 1) fun b6 =>
  ca_ (X11_init u1 a0 b6 g2) fun r10 g9 =>
  wk_ g9 u1 10 <|
  cb_ (X11_run u1 g9) fun r16 g15 =>
  some ((r16, g15), 0, 0)
/-- RingHand.keep()V -/
def X1_keep (a0 : Nat) (g : GS) : Option ((Unit × GS) × Nat × Nat) :=
  wk_ g a0 1 <|
  nn_ (gR g a0 7) fun b2 =>
  nn_ (gR g a0 1) fun b4 =>
  wk_ g b4 3 <|
  ca_ (X3_copy b4 g) fun r9 g8 =>
  wk_ g8 b2 12 <|
  ca_ (J2_add b2 r9 g8) fun r15 g14 =>
  wk_ g14 a0 1 <|
  nn_ (gR g14 a0 7) fun b19 =>
  wk_ g14 b19 12 <|
  ob_ (J2_size b19 g14) fun r23 =>
  if r23 ≤ 40 then
  some (((), g14), 0, 0)
else
  nn_ (gR g14 a0 7) fun b25 =>
    wk_ g14 b25 12 <|
    cb_ (J2_remove b25 0 g14) fun r30 g29 =>
    some (((), g29), 0, 0)
/-- RingHand.refuse(I)I -/
def X1_refuse (a0 : Nat) (x1 : Int32) (g : GS) : Option (Int32 × GS) :=
  wk_ g a0 1 <|
  nn_ (gR g a0 6) fun b2 =>
  rk_ g b2 100 <|
  in_ x1 (gN g b2) <|
  wk_ g b2 100 <|
  in_ x1 (gN g b2) <|
  some ((-1), pI g b2 x1.toNatClampNeg ((gI g b2 x1.toNatClampNeg) + 1))
/-- RingHand.hole(I)I -/
def X1_hole (a0 : Nat) (x1 : Int32) (g : GS) : Option ((Int32 × GS) × Nat × Nat) :=
  ob_ (X1_in x1 1 60) fun r2 =>
  if r2 = 0 then
  wk_ g a0 1 <|
    cb_ (X1_refuse a0 1 g) fun r20 g19 =>
    some ((r20, g19), 0, 0)
else
  wk_ g a0 1 <|
    ca_ (X1_keep a0 g) fun r7 g6 =>
    wk_ g6 a0 1 <|
    nn_ (gR g6 a0 1) fun b11 =>
    wk_ g6 b11 3 <|
    nn_ (gR g6 a0 1) fun b14 =>
    wk_ g6 b14 3 <|
    some ((gI g6 b11 0, pI g6 b14 0 x1), 0, 0)
/-- RingHand.lag(I)I -/
def X1_lag (a0 : Nat) (x1 : Int32) (g : GS) : Option ((Int32 × GS) × Nat × Nat) :=
  ob_ (X1_in x1 0 24) fun r2 =>
  if r2 = 0 then
  wk_ g a0 1 <|
    cb_ (X1_refuse a0 1 g) fun r20 g19 =>
    some ((r20, g19), 0, 0)
else
  wk_ g a0 1 <|
    ca_ (X1_keep a0 g) fun r7 g6 =>
    wk_ g6 a0 1 <|
    nn_ (gR g6 a0 1) fun b11 =>
    wk_ g6 b11 3 <|
    nn_ (gR g6 a0 1) fun b14 =>
    wk_ g6 b14 3 <|
    some ((gI g6 b11 1, pI g6 b14 1 x1), 0, 0)
/-- RingHand.wrist(I)I -/
def X1_wrist (a0 : Nat) (x1 : Int32) (g : GS) : Option ((Int32 × GS) × Nat × Nat) :=
  ob_ (X1_in x1 1 90) fun r2 =>
  if r2 = 0 then
  wk_ g a0 1 <|
    cb_ (X1_refuse a0 1 g) fun r20 g19 =>
    some ((r20, g19), 0, 0)
else
  wk_ g a0 1 <|
    ca_ (X1_keep a0 g) fun r7 g6 =>
    wk_ g6 a0 1 <|
    nn_ (gR g6 a0 1) fun b11 =>
    wk_ g6 b11 3 <|
    nn_ (gR g6 a0 1) fun b14 =>
    wk_ g6 b14 3 <|
    some ((gI g6 b11 2, pI g6 b14 2 x1), 0, 0)
/-- RingHand.eye(I)I -/
def X1_eye (a0 : Nat) (x1 : Int32) (g : GS) : Option ((Int32 × GS) × Nat × Nat) :=
  ob_ (X1_in x1 (-30) 30) fun r2 =>
  if r2 = 0 then
  wk_ g a0 1 <|
    nn_ (gR g a0 6) fun b18 =>
    rk_ g b18 100 <|
    in_ 1 (gN g b18) <|
    wk_ g b18 100 <|
    in_ 1 (gN g b18) <|
    some (((-99), pI g b18 (1 : Int32).toNatClampNeg ((gI g b18 (1 : Int32).toNatClampNeg) + 1)), 0, 0)
else
  wk_ g a0 1 <|
    ca_ (X1_keep a0 g) fun r7 g6 =>
    wk_ g6 a0 1 <|
    nn_ (gR g6 a0 1) fun b11 =>
    wk_ g6 b11 3 <|
    nn_ (gR g6 a0 1) fun b14 =>
    wk_ g6 b14 3 <|
    some ((gI g6 b11 3, pI g6 b14 3 x1), 0, 0)
/-- RingHand.hand(I)Z -/
def X1_hand (a0 : Nat) (x1 : Int32) (g : GS) : Option ((Int32 × GS) × Nat × Nat) :=
  wk_ g a0 1 <|
  nn_ (gR g a0 0) fun b2 =>
  wk_ g b2 2 <|
  nn_ (gR g b2 2) fun b5 =>
  wk_ g b5 12 <|
  ob_ (J2_size b5 g) fun r9 =>
  ob_ (X1_in x1 (-1) (r9 - 1)) fun r11 =>
  if r11 = 0 then
  nn_ (gR g a0 6) fun b22 =>
    rk_ g b22 100 <|
    in_ 1 (gN g b22) <|
    wk_ g b22 100 <|
    in_ 1 (gN g b22) <|
    some ((0, pI g b22 (1 : Int32).toNatClampNeg ((gI g b22 (1 : Int32).toNatClampNeg) + 1)), 0, 0)
else
  ca_ (X1_keep a0 g) fun r15 g14 =>
    wk_ g14 a0 1 <|
    nn_ (gR g14 a0 1) fun b19 =>
    wk_ g14 b19 3 <|
    some ((1, pI g14 b19 4 x1), 0, 0)
/-- RingHand.behind(I)I -/
def X1_behind (a0 : Nat) (x1 : Int32) (g : GS) : Option ((Int32 × GS) × Nat × Nat) :=
  ob_ (X1_in x1 0 200) fun r2 =>
  if r2 = 0 then
  wk_ g a0 1 <|
    cb_ (X1_refuse a0 1 g) fun r20 g19 =>
    some ((r20, g19), 0, 0)
else
  wk_ g a0 1 <|
    ca_ (X1_keep a0 g) fun r7 g6 =>
    wk_ g6 a0 1 <|
    nn_ (gR g6 a0 1) fun b11 =>
    wk_ g6 b11 3 <|
    nn_ (gR g6 a0 1) fun b14 =>
    wk_ g6 b14 3 <|
    some ((gI g6 b11 5, pI g6 b14 5 x1), 0, 0)
/-- RingHand.undo()I -/
def X1_undo (a0 : Nat) (g : GS) : Option ((Int32 × GS) × Nat × Nat) :=
  wk_ g a0 1 <|
  nn_ (gR g a0 7) fun b2 =>
  wk_ g b2 12 <|
  ob_ (J2_isEmpty b2 g) fun r6 =>
  if r6 = 0 then
  nn_ (gR g a0 7) fun b8 =>
    nn_ (gR g a0 7) fun b10 =>
    wk_ g b10 12 <|
    ob_ (J2_size b10 g) fun r14 =>
    wk_ g b8 12 <|
    cb_ (J2_remove b8 (r14 - 1) g) fun r18 g17 =>
    wk_ g17 r18 3 <|
    ca_ (X3_copy r18 g17) fun r22 g21 =>
    wk_ g21 a0 1 <|
    nn_ (gR (pR g21 a0 1 (r22 + 1)) a0 7) fun b26 =>
    wk_ (pR g21 a0 1 (r22 + 1)) b26 12 <|
    ob_ (J2_size b26 (pR g21 a0 1 (r22 + 1))) fun r30 =>
    some ((r30, pR g21 a0 1 (r22 + 1)), 0, 0)
else
  some (((-1), g), 0, 0)
def X1_both_b17 (a0 : Nat) (a1 : Nat) (x2 : Int32) (x3 : Int32) (g : GS) : Option (((Int32 × Int32 × GS) ⊕ (Int32 × GS)) × Nat × Nat) :=
  wk_ g a0 1 <|
  nn_ (gR g a0 0) fun b14 =>
  wk_ g b14 2 <|
  if (gI g b14 6) < x3 then
  some (.inr (x2, g), 0, 0)
else
  wk_ g a1 10 <|
    ob_ (X11_inches a1 x3 0 g) fun r20 =>
    cb_ (X1_turnOf a0 r20 g) fun r23 g22 =>
    wk_ g22 a1 10 <|
    ob_ (X11_inches a1 x3 1 g22) fun r26 =>
    wk_ g22 a0 1 <|
    cb_ (X1_turnOf a0 r26 g22) fun r30 g29 =>
    some (.inl (jmax_ x2 (jabs_ (r23 - r30)), x3 + 1, g29), 0, 0)
/-- RingHand.both()I -/
def X1_both (a0 : Nat) (g : GS) : Option ((Int32 × GS) × Nat × Nat) :=
  al_ g 10 8 fun u1 g2 =>
  wk_ g2 a0 1 <|
  nn_ (gR g2 a0 1) fun b6 =>
  ca_ (X11_init u1 a0 b6 g2) fun r10 g9 =>
  oa_ (la_ (fun a => X1_both_b17 a0 u1 a.1 a.2.1 a.2.2) fu_ (0, 0, g9)) fun e31 =>
  dv_ 2 <|
  some (((e31.1 + 1) / 2, e31.2), 0, 0)
/-- RingHand.sharpBy(LRingHand$Settings;)I -/
def X1_sharpBy (a0 : Nat) (a1 : Nat) (g : GS) : Option ((Int32 × GS) × Nat × Nat) :=
  al_ g 10 8 fun u1 g2 =>
  ca_ (X11_init u1 a0 a1 g2) fun r7 g6 =>
  wk_ g6 u1 10 <|
  cb_ (X11_run u1 g6) fun r13 g12 =>
  wk_ g12 r13 10 <|
  ob_ (X11_sharp r13 g12) fun r16 =>
  some ((r16, g12), 0, 0)
def X1_cure_j82 (a0 : Nat) (x1 : Int32) (x2 : Int32) (x3 : Int32) (g : GS) : Option (((Int32 × Int32 × Int32 × GS) ⊕ (Int32 × GS)) × Nat × Nat) :=
  some (.inl (x1, x2, x3 + 1, g), 0, 0)
def X1_cure_j60 (a0 : Nat) (x1 : Int32) (x2 : Int32) (x3 : Int32) (a4 : Nat) (g : GS) : Option (((Int32 × Int32 × Int32 × GS) ⊕ (Int32 × GS)) × Nat × Nat) :=
  wk_ g a0 1 <|
  ca_ (X1_sharpBy a0 a4 g) fun r26 g25 =>
  if x2 < r26 then
  X1_cure_j82 a0 x3 r26 x3 g25
else
  X1_cure_j82 a0 x1 x2 x3 g25
def X1_cure_b12 (a0 : Nat) (x1 : Int32) (x2 : Int32) (x3 : Int32) (g : GS) : Option (((Int32 × Int32 × Int32 × GS) ⊕ (Int32 × GS)) × Nat × Nat) :=
  if 3 ≤ x3 then
  some (.inr (x1, g), 0, 0)
else
  wk_ g a0 1 <|
    nn_ (gR g a0 1) fun b12 =>
    wk_ g b12 3 <|
    ca_ (X3_copy b12 g) fun r17 g16 =>
    if x3 = 0 then
    wk_ g16 r17 3 <|
      X1_cure_j60 a0 x1 x2 x3 r17 (pI g16 r17 3 0)
  else
    if x3 = 1 then
      wk_ g16 r17 3 <|
        X1_cure_j60 a0 x1 x2 x3 r17 (pI g16 r17 1 0)
    else
      wk_ g16 r17 3 <|
        X1_cure_j60 a0 x1 x2 x3 r17 (pI g16 r17 2 90)
/-- RingHand.cure()I -/
def X1_cure (a0 : Nat) (g : GS) : Option ((Int32 × GS) × Nat × Nat) :=
  wk_ g a0 1 <|
  ca_ (X1_take a0 g) fun r4 g3 =>
  wk_ g3 r4 10 <|
  ob_ (X11_sharp r4 g3) fun r9 =>
  oa_ (la_ (fun a => X1_cure_b12 a0 a.1 a.2.1 a.2.2.1 a.2.2.2) fu_ ((-1), r9, 0, g3)) fun e32 =>
  some ((e32.1, e32.2), 0, 0)
def X1_wrists_j63 (a1 : Nat) (x2 : Int32) (x3 : Int32) (x4 : Int32) (g : GS) : Option (((Int32 × Int32 × Int32 × GS) ⊕ (Int32 × GS)) × Nat × Nat) :=
  some (.inl (x2, x3, x4 + 1, g), 0, 0)
def X1_wrists_b23 (a1 : Nat) (x2 : Int32) (x3 : Int32) (x4 : Int32) (g : GS) : Option (((Int32 × Int32 × Int32 × GS) ⊕ (Int32 × GS)) × Nat × Nat) :=
  if 90 < x4 then
  some (.inr (x2, g), 0, 0)
else
  wk_ g a1 10 <|
    nn_ (gR g a1 0) fun b21 =>
    wk_ g b21 3 <|
    cb_ (X11_run a1 (pI g b21 2 x4)) fun r26 g25 =>
    wk_ g25 r26 10 <|
    ob_ (X11_sharp r26 g25) fun r29 =>
    if x3 < r29 then
    X1_wrists_j63 a1 x4 r29 x4 g25
  else
    X1_wrists_j63 a1 x2 x3 x4 g25
/-- RingHand.wrists()I -/
def X1_wrists (a0 : Nat) (g : GS) : Option ((Int32 × GS) × Nat × Nat) :=
  al_ g 10 8 fun u1 g2 =>
  wk_ g2 a0 1 <|
  nn_ (gR g2 a0 1) fun b6 =>
  wk_ g2 b6 3 <|
  ca_ (X3_copy b6 g2) fun r11 g10 =>
  ca_ (X11_init u1 a0 r11 g10) fun r16 g15 =>
  oa_ (la_ (fun a => X1_wrists_b23 u1 a.1 a.2.1 a.2.2.1 a.2.2.2) fu_ (0, (-1), 1, g15)) fun e31 =>
  some ((e31.1, e31.2), 0, 0)
def X1_learn_j90 (a0 : Nat) (a1 : Nat) (x2 : Int32) (x3 : Int32) (x4 : Int32) (g : GS) : Option (((Int32 × Int32 × Int32 × GS) ⊕ (Int32 × GS)) × Nat × Nat) :=
  some (.inl (x2, x3, x4 + 1, g), 0, 0)
def X1_learn_b23 (a0 : Nat) (a1 : Nat) (x2 : Int32) (x3 : Int32) (x4 : Int32) (g : GS) : Option (((Int32 × Int32 × Int32 × GS) ⊕ (Int32 × GS)) × Nat × Nat) :=
  wk_ g a0 1 <|
  nn_ (gR g a0 1) fun b20 =>
  wk_ g b20 3 <|
  if (jabs_ (gI g b20 3)) < x4 then
  some (.inr (x2, g), 0, 0)
else
  wk_ g a1 10 <|
    nn_ (gR g a1 0) fun b25 =>
    nn_ (gR g a0 1) fun b27 =>
    wk_ g b27 3 <|
    nn_ (gR g a0 1) fun b30 =>
    wk_ g b30 3 <|
    ob_ (J19_signum (gI g b30 3)) fun r34 =>
    wk_ g b25 3 <|
    cb_ (X11_run a1 (pI g b25 3 ((gI g b27 3) - (x4 * r34)))) fun r38 g37 =>
    wk_ g37 r38 10 <|
    ob_ (X11_sharp r38 g37) fun r41 =>
    if x3 < r41 then
    X1_learn_j90 a0 a1 x4 r41 x4 g37
  else
    X1_learn_j90 a0 a1 x2 x3 x4 g37
/-- RingHand.learn()I -/
def X1_learn (a0 : Nat) (g : GS) : Option ((Int32 × GS) × Nat × Nat) :=
  al_ g 10 8 fun u1 g2 =>
  wk_ g2 a0 1 <|
  nn_ (gR g2 a0 1) fun b6 =>
  wk_ g2 b6 3 <|
  ca_ (X3_copy b6 g2) fun r11 g10 =>
  ca_ (X11_init u1 a0 r11 g10) fun r16 g15 =>
  oa_ (la_ (fun a => X1_learn_b23 a0 u1 a.1 a.2.1 a.2.2.1 a.2.2.2) fu_ (0, (-1), 0, g15)) fun e43 =>
  some ((e43.1, e43.2), 0, 0)
/-- RingHand.draw(I)I -/
def X1_draw (a0 : Nat) (x1 : Int32) (g : GS) : Option (Int32 × GS) :=
  wk_ g a0 1 <|
  dv_ x1 <|
  some ((((gI (pI g a0 15 (((gI g a0 15) * 1103515245) + 12345)) a0 15) >>> ((16 : Int32) &&& 31)) &&& 32767) - (((gI (pI g a0 15 (((gI g a0 15) * 1103515245) + 12345)) a0 15) >>> ((16 : Int32) &&& 31)) &&& 32767) / x1 * x1, pI g a0 15 (((gI g a0 15) * 1103515245) + 12345))
def X1_book_j26 (a0 : Nat) (g : GS) : Option ((Int32 × GS) × Nat × Nat) :=
  wk_ g a0 1 <|
  cb_ (X1_refuse a0 2 g) fun r11 g10 =>
  some ((r11, g10), 0, 0)
/-- RingHand.book(I)I -/
def X1_book (a0 : Nat) (x1 : Int32) (g : GS) : Option ((Int32 × GS) × Nat × Nat) :=
  wk_ g a0 1 <|
  nn_ (gR g a0 9) fun b2 =>
  wk_ g b2 12 <|
  ob_ (J2_size b2 g) fun r6 =>
  if r6 = 16 then
  X1_book_j26 a0 g
else
  ob_ (X1_in x1 12 480) fun r13 =>
    if r13 = 0 then
    X1_book_j26 a0 g
  else
    nn_ (gR g a0 9) fun b15 =>
      ca_ (J19_valueOf x1 g) fun r19 g18 =>
      wk_ g18 b15 12 <|
      ca_ (J2_add b15 r19 g18) fun r25 g24 =>
      wk_ g24 a0 1 <|
      nn_ (gR g24 a0 9) fun b29 =>
      wk_ g24 b29 12 <|
      ob_ (J2_size b29 g24) fun r33 =>
      some ((r33, g24), 0, 0)
/-- RingHand.forget()V -/
def X1_forget (a0 : Nat) (g : GS) : Option ((Unit × GS) × Nat × Nat) :=
  al_ g 12 3 fun u1 g2 =>
  ob_ (J2_init u1 g2) fun g6 =>
  wk_ g6 a0 1 <|
  al_ (pR g6 a0 8 (u1 + 1)) 12 3 fun u8 g9 =>
  ob_ (J2_init u8 g9) fun g13 =>
  wk_ g13 a0 1 <|
  some (((), pR g13 a0 9 (u8 + 1)), 0, 0)
/-- RingHand.image()V -/
def X1_image (a0 : Nat) (g : GS) : Option ((Unit × GS) × Nat × Nat) :=
  wk_ g a0 1 <|
  nn_ (gR g a0 1) fun b2 =>
  wk_ g b2 3 <|
  ca_ (X3_copy b2 g) fun r7 g6 =>
  wk_ g6 a0 1 <|
  al_ (pR g6 a0 11 (r7 + 1)) 12 3 fun u11 g12 =>
  wk_ g12 a0 1 <|
  nn_ (gR g12 a0 7) fun b16 =>
  ca_ (J2_init_2 u11 b16 g12) fun r20 g19 =>
  wk_ g19 a0 1 <|
  al_ (pR g19 a0 12 (u11 + 1)) 12 3 fun u24 g25 =>
  wk_ g25 a0 1 <|
  nn_ (gR g25 a0 8) fun b29 =>
  ca_ (J2_init_2 u24 b29 g25) fun r33 g32 =>
  wk_ g32 a0 1 <|
  al_ (pR g32 a0 13 (u24 + 1)) 12 3 fun u37 g38 =>
  wk_ g38 a0 1 <|
  nn_ (gR g38 a0 9) fun b42 =>
  ca_ (J2_init_2 u37 b42 g38) fun r46 g45 =>
  wk_ g45 a0 1 <|
  some (((), pR g45 a0 14 (u37 + 1)), 0, 0)
/-- RingHand.restore()Z -/
def X1_restore (a0 : Nat) (g : GS) : Option ((Int32 × GS) × Nat × Nat) :=
  wk_ g a0 1 <|
  if (gR g a0 11) = 0 then
  some ((0, g), 0, 0)
else
  nn_ (gR g a0 11) fun b3 =>
    wk_ g b3 3 <|
    ca_ (X3_copy b3 g) fun r8 g7 =>
    wk_ g7 a0 1 <|
    al_ (pR g7 a0 1 (r8 + 1)) 12 3 fun u12 g13 =>
    wk_ g13 a0 1 <|
    nn_ (gR g13 a0 12) fun b17 =>
    ca_ (J2_init_2 u12 b17 g13) fun r21 g20 =>
    wk_ g20 a0 1 <|
    al_ (pR g20 a0 7 (u12 + 1)) 12 3 fun u25 g26 =>
    wk_ g26 a0 1 <|
    nn_ (gR g26 a0 13) fun b30 =>
    ca_ (J2_init_2 u25 b30 g26) fun r34 g33 =>
    wk_ g33 a0 1 <|
    al_ (pR g33 a0 8 (u25 + 1)) 12 3 fun u38 g39 =>
    wk_ g39 a0 1 <|
    nn_ (gR g39 a0 14) fun b43 =>
    ca_ (J2_init_2 u38 b43 g39) fun r47 g46 =>
    wk_ g46 a0 1 <|
    some ((1, pR g46 a0 9 (u38 + 1)), 0, 0)
/-- RingHand.fault()I -/
def X1_fault (a0 : Nat) (g : GS) : Option (Int32) :=
  wk_ g a0 1 <|
  some (gI g a0 5)
def X1_feed_j71 (a0 : Nat) (x1 : Int32) (x2 : Int32) (x3 : Int32) (x4 : Int32) (x5 : Int32) (x6 : Int32) (t0 : Int32) (g : GS) : Option ((Int32 × GS) ⊕ (GS)) :=
  wk_ g a0 1 <|
  nn_ (gR g a0 3) fun b9 =>
  dv_ 4 <|
  wk_ g b9 101 <|
  in_ ((gI g a0 4) + x6) (gN g b9) <|
  nm_ (pI g b9 ((gI g a0 4) + x6).toNatClampNeg (((t0 >>> ((24 - (8 * (x6 - x6 / 4 * 4))) &&& 31)).toInt8.toInt32).toInt8.toInt32)) fun g14 =>
  some (.inl (x6 + 1, g14))
def X1_feed_b18 (a0 : Nat) (x1 : Int32) (x2 : Int32) (x3 : Int32) (x4 : Int32) (x5 : Int32) (x6 : Int32) (g : GS) : Option ((Int32 × GS) ⊕ (GS)) :=
  if 20 ≤ x6 then
  some (.inr g)
else
  if 4 ≤ x6 then
    if 8 ≤ x6 then
      if 12 ≤ x6 then
        if 16 ≤ x6 then
          X1_feed_j71 a0 x1 x2 x3 x4 x5 x6 x5 g
        else
          X1_feed_j71 a0 x1 x2 x3 x4 x5 x6 x4 g
      else
        X1_feed_j71 a0 x1 x2 x3 x4 x5 x6 x3 g
    else
      X1_feed_j71 a0 x1 x2 x3 x4 x5 x6 x2 g
  else
    X1_feed_j71 a0 x1 x2 x3 x4 x5 x6 x1 g
/-- RingHand.feed(IIIII)I -/
def X1_feed (a0 : Nat) (x1 : Int32) (x2 : Int32) (x3 : Int32) (x4 : Int32) (x5 : Int32) (g : GS) : Option (Int32 × GS) :=
  wk_ g a0 1 <|
  if ((gI g a0 4) + 20) ≤ 700 then
  ob_ (lp_ (fun a => X1_feed_b18 a0 x1 x2 x3 x4 x5 a.1 a.2) fu_ (0, g)) fun e18 =>
    wk_ e18 a0 1 <|
    some (gI (pI e18 a0 4 ((gI e18 a0 4) + 20)) a0 4, pI e18 a0 4 ((gI e18 a0 4) + 20))
else
  some ((-1), g)
/-- RingHand.<init>()V -/
def X1_init (a0 : Nat) (g : GS) : Option ((Unit × GS) × Nat × Nat) :=
  al_ g 2 7 fun u1 g2 =>
  ca_ (X2_init u1 g2) fun r7 g6 =>
  wk_ g6 a0 1 <|
  al_ (pR g6 a0 0 (u1 + 1)) 3 7 fun u11 g12 =>
  ca_ (X3_init u11 g12) fun r17 g16 =>
  wk_ g16 a0 1 <|
  na_ 5 <|
  al_ (pR g16 a0 1 (u11 + 1)) 100 ((5 : Int32).toNatClampNeg) fun u21 g22 =>
  wk_ g22 a0 1 <|
  na_ 700 <|
  al_ (pR g22 a0 2 (u21 + 1)) 101 ((700 : Int32).toNatClampNeg) fun u27 g28 =>
  wk_ g28 a0 1 <|
  na_ 3 <|
  al_ (pI (pR g28 a0 3 (u27 + 1)) a0 5 (-1)) 100 ((3 : Int32).toNatClampNeg) fun u33 g34 =>
  wk_ g34 a0 1 <|
  al_ (pR g34 a0 6 (u33 + 1)) 12 3 fun u39 g40 =>
  ob_ (J2_init u39 g40) fun g44 =>
  wk_ g44 a0 1 <|
  al_ (pR g44 a0 7 (u39 + 1)) 12 3 fun u46 g47 =>
  ob_ (J2_init u46 g47) fun g51 =>
  wk_ g51 a0 1 <|
  al_ (pR g51 a0 8 (u46 + 1)) 12 3 fun u53 g54 =>
  ob_ (J2_init u53 g54) fun g58 =>
  wk_ g58 a0 1 <|
  some (((), pR g58 a0 9 (u53 + 1)), 0, 0)

/-! PURE, printed out of the bytecode by wip/D-98610w/gen/comp.py -/
set_option maxRecDepth 100000

/-- RingHand.found(Z)V -/
def X1_found (x0 : Int32) (g : GS) : Option (((Unit ⊕ (Nat × Nat)) × GS) × Nat × Nat) :=
  if x0 = 0 then
  some ((.inr (1, gz g), g), 1, 6)
else
  some ((.inl (), g), 0, 0)
/-- RingHand.right(Z)V -/
def X1_right (x0 : Int32) (g : GS) : Option (((Unit ⊕ (Nat × Nat)) × GS) × Nat × Nat) :=
  if x0 = 0 then
  some ((.inr (2, gz g), g), 1, 6)
else
  some ((.inl (), g), 0, 0)
/-- RingHand.oneOf(II)V -/
def X1_oneOf (x0 : Int32) (x1 : Int32) (g : GS) : Option (((Unit ⊕ (Nat × Nat)) × GS) × Nat × Nat) :=
  ob_ (X1_in x0 0 x1) fun r2 =>
  tc_ (X1_found r2 g) (fun e6 g5 => some ((.inr e6, g5), 0, 0)) fun r4 g5 =>
  some ((.inl (), g5), 0, 0)
/-- RingHand.aMark(I)V -/
def X1_aMark (a0 : Nat) (x1 : Int32) (g : GS) : Option (((Unit ⊕ (Nat × Nat)) × GS) × Nat × Nat) :=
  wk_ g a0 1 <|
  nn_ (gR g a0 1) fun b2 =>
  wk_ g b2 3 <|
  nn_ (gR g b2 6) fun b5 =>
  wk_ g b5 12 <|
  ob_ (J2_size b5 g) fun r9 =>
  ob_ (X1_in x1 0 (r9 - 1)) fun r11 =>
  tc_ (X1_found r11 g) (fun e15 g14 => some ((.inr e15, g14), 0, 0)) fun r13 g14 =>
  some ((.inl (), g14), 0, 0)
/-- RingHand.aTenth(I)V -/
def X1_aTenth (a0 : Nat) (x1 : Int32) (g : GS) : Option (((Unit ⊕ (Nat × Nat)) × GS) × Nat × Nat) :=
  wk_ g a0 1 <|
  nn_ (gR g a0 0) fun b2 =>
  wk_ g b2 2 <|
  ob_ (X1_in x1 0 (gI g b2 6)) fun r6 =>
  tc_ (X1_found r6 g) (fun e10 g9 => some ((.inr e10, g9), 0, 0)) fun r8 g9 =>
  some ((.inl (), g9), 0, 0)
/-- RingHand.mark(I)I -/
def X1_mark (a0 : Nat) (x1 : Int32) (g : GS) : Option (((Int32 ⊕ (Nat × Nat)) × GS) × Nat × Nat) :=
  wk_ g a0 1 <|
  tc_ (X1_aMark a0 x1 g) (fun e5 g4 => some ((.inr e5, g4), 0, 0)) fun r3 g4 =>
  wk_ g4 a0 1 <|
  nn_ (gR g4 a0 1) fun b9 =>
  wk_ g4 b9 3 <|
  nn_ (gR g4 b9 6) fun b12 =>
  wk_ g4 b12 12 <|
  ob_ (J2_get b12 x1 g4) fun r16 =>
  rk_ g4 r16 14 <|
  ob_ (J19_intValue r16 g4) fun r19 =>
  some ((.inl r19, g4), 0, 0)
def X1_inches_j33 (t0 : Nat) (t1 : Int32) (t2 : Int32) (g : GS) : Option (((Int32 ⊕ (Nat × Nat)) × GS) × Nat × Nat) :=
  wk_ g t0 10 <|
  ob_ (X11_inches t0 t1 t2 g) fun r29 =>
  some ((.inl r29, g), 0, 0)
/-- RingHand.inches(II)I -/
def X1_inches (a0 : Nat) (x1 : Int32) (x2 : Int32) (g : GS) : Option (((Int32 ⊕ (Nat × Nat)) × GS) × Nat × Nat) :=
  wk_ g a0 1 <|
  tc_ (X1_aTenth a0 x1 g) (fun e5 g4 => some ((.inr e5, g4), 0, 0)) fun r3 g4 =>
  tc_ (X1_oneOf x2 1 g4) (fun e11 g10 => some ((.inr e11, g10), 0, 0)) fun r9 g10 =>
  al_ g10 10 8 fun u14 g15 =>
  wk_ g15 a0 1 <|
  nn_ (gR g15 a0 1) fun b19 =>
  ca_ (X11_init u14 a0 b19 g15) fun r23 g22 =>
  if x2 = 1 then
  X1_inches_j33 u14 x1 1 g22
else
  X1_inches_j33 u14 x1 0 g22
/-- RingHand.turn(I)I -/
def X1_turn (a0 : Nat) (x1 : Int32) (g : GS) : Option (((Int32 ⊕ (Nat × Nat)) × GS) × Nat × Nat) :=
  ob_ (X1_in x1 12 480) fun r2 =>
  tc_ (X1_right r2 g) (fun e6 g5 => some ((.inr e6, g5), 0, 0)) fun r4 g5 =>
  wk_ g5 a0 1 <|
  cb_ (X1_turnOf a0 x1 g5) fun r12 g11 =>
  some ((.inl r12, g11), 0, 0)

/-! PURE, printed out of the bytecode by wip/D-98610w/gen/comp.py -/
set_option maxRecDepth 100000

/-- RingHand.tenth(II)I -/
def X1_tenth (a0 : Nat) (x1 : Int32) (x2 : Int32) (g : GS) : Option (((Int32 ⊕ (Nat × Nat)) × GS) × Nat × Nat) :=
  wk_ g a0 1 <|
  tc_ (X1_aTenth a0 x1 g) (fun e5 g4 => some ((.inr e5, g4), 0, 0)) fun r3 g4 =>
  tc_ (X1_oneOf x2 5 g4) (fun e11 g10 => some ((.inr e11, g10), 0, 0)) fun r9 g10 =>
  if x2 = 0 then
  wk_ g10 a0 1 <|
    nn_ (gR g10 a0 0) fun b50 =>
    wk_ g10 b50 2 <|
    ob_ (X2_isHis b50 x1 g10) fun r54 =>
    if r54 = 0 then
    some ((.inl 0, g10), 0, 0)
  else
    some ((.inl 1, g10), 0, 0)
else
  wk_ g10 a0 1 <|
    ca_ (X1_take a0 g10) fun r18 g17 =>
    if x2 = 1 then
    wk_ g17 r18 10 <|
      nn_ (gR g17 r18 1) fun b23 =>
      rk_ g17 b23 100 <|
      in_ x1 (gN g17 b23) <|
      some ((.inl (gI g17 b23 x1.toNatClampNeg), g17), 0, 0)
  else
    if x2 = 2 then
      wk_ g17 r18 10 <|
        nn_ (gR g17 r18 2) fun b29 =>
        rk_ g17 b29 100 <|
        in_ x1 (gN g17 b29) <|
        some ((.inl (gI g17 b29 x1.toNatClampNeg), g17), 0, 0)
    else
      if x2 = 3 then
        wk_ g17 r18 10 <|
          nn_ (gR g17 r18 3) fun b35 =>
          rk_ g17 b35 100 <|
          in_ x1 (gN g17 b35) <|
          some ((.inl (gI g17 b35 x1.toNatClampNeg), g17), 0, 0)
      else
        if x2 = 4 then
          wk_ g17 r18 10 <|
            ob_ (X11_isSharp_2 r18 x1 g17) fun r42 =>
            if r42 = 0 then
            some ((.inl 0, g17), 0, 0)
          else
            some ((.inl 1, g17), 0, 0)
        else
          wk_ g17 r18 10 <|
            cb_ (X11_shows r18 x1 g17) fun r47 g46 =>
            if r47 = 0 then
            some ((.inl 0, g46), 0, 0)
          else
            some ((.inl 1, g46), 0, 0)
/-- RingHand.all(I)I -/
def X1_all (a0 : Nat) (x1 : Int32) (g : GS) : Option (((Int32 ⊕ (Nat × Nat)) × GS) × Nat × Nat) :=
  tc_ (X1_oneOf x1 6 g) (fun e4 g3 => some ((.inr e4, g3), 0, 0)) fun r2 g3 =>
  wk_ g3 a0 1 <|
  ca_ (X1_take a0 g3) fun r10 g9 =>
  if x1 = 0 then
  wk_ g9 r10 10 <|
    ob_ (X11_sharp r10 g9) fun r16 =>
    some ((.inl r16, g9), 0, 0)
else
  if x1 = 1 then
    wk_ g9 r10 10 <|
      ob_ (X11_worst r10 g9) fun r20 =>
      some ((.inl r20, g9), 0, 0)
  else
    if x1 = 2 then
      wk_ g9 r10 10 <|
        ob_ (X11_longestSoft r10 g9) fun r24 =>
        some ((.inl r24, g9), 0, 0)
    else
      if x1 = 3 then
        wk_ g9 r10 10 <|
          ob_ (X11_firstSoft r10 g9) fun r28 =>
          some ((.inl r28, g9), 0, 0)
      else
        if x1 = 4 then
          wk_ g9 r10 10 <|
            ob_ (X11_swings r10 g9) fun r32 =>
            some ((.inl r32, g9), 0, 0)
        else
          if x1 = 5 then
            wk_ g9 r10 10 <|
              cb_ (X11_shown r10 g9) fun r37 g36 =>
              some ((.inl r37, g36), 0, 0)
          else
            wk_ g9 r10 10 <|
              ob_ (X11_turned r10 g9) fun r40 =>
              some ((.inl r40, g9), 0, 0)
/-- RingHand.count(I)I -/
def X1_count (a0 : Nat) (x1 : Int32) (g : GS) : Option (((Int32 ⊕ (Nat × Nat)) × GS) × Nat × Nat) :=
  if x1 = 0 then
  wk_ g a0 1 <|
    nn_ (gR g a0 0) fun b3 =>
    wk_ g b3 2 <|
    some ((.inl (gI g b3 6), g), 0, 0)
else
  if x1 = 1 then
    wk_ g a0 1 <|
      nn_ (gR g a0 0) fun b8 =>
      wk_ g b8 2 <|
      nn_ (gR g b8 0) fun b11 =>
      wk_ g b11 12 <|
      ob_ (J2_size b11 g) fun r15 =>
      some ((.inl r15, g), 0, 0)
  else
    if x1 = 2 then
      wk_ g a0 1 <|
        nn_ (gR g a0 0) fun b18 =>
        wk_ g b18 2 <|
        nn_ (gR g b18 1) fun b21 =>
        wk_ g b21 12 <|
        ob_ (J2_size b21 g) fun r25 =>
        some ((.inl r25, g), 0, 0)
    else
      if x1 = 3 then
        wk_ g a0 1 <|
          nn_ (gR g a0 1) fun b28 =>
          wk_ g b28 3 <|
          nn_ (gR g b28 6) fun b31 =>
          wk_ g b31 12 <|
          ob_ (J2_size b31 g) fun r35 =>
          some ((.inl r35, g), 0, 0)
      else
        if x1 = 4 then
          wk_ g a0 1 <|
            nn_ (gR g a0 0) fun b38 =>
            wk_ g b38 2 <|
            nn_ (gR g b38 2) fun b41 =>
            wk_ g b41 12 <|
            ob_ (J2_size b41 g) fun r45 =>
            some ((.inl r45, g), 0, 0)
        else
          if x1 = 5 then
            wk_ g a0 1 <|
              nn_ (gR g a0 1) fun b48 =>
              wk_ g b48 3 <|
              some ((.inl (gI g b48 4), g), 0, 0)
          else
            if x1 = 6 then
              wk_ g a0 1 <|
                nn_ (gR g a0 1) fun b53 =>
                wk_ g b53 3 <|
                some ((.inl (gI g b53 0), g), 0, 0)
            else
              if x1 = 7 then
                wk_ g a0 1 <|
                  nn_ (gR g a0 1) fun b58 =>
                  wk_ g b58 3 <|
                  some ((.inl (gI g b58 1), g), 0, 0)
              else
                if x1 = 8 then
                  wk_ g a0 1 <|
                    nn_ (gR g a0 1) fun b63 =>
                    wk_ g b63 3 <|
                    some ((.inl (gI g b63 2), g), 0, 0)
                else
                  if x1 = 9 then
                    wk_ g a0 1 <|
                      nn_ (gR g a0 1) fun b68 =>
                      wk_ g b68 3 <|
                      some ((.inl (gI g b68 3), g), 0, 0)
                  else
                    if x1 = 10 then
                      wk_ g a0 1 <|
                        nn_ (gR g a0 1) fun b73 =>
                        wk_ g b73 3 <|
                        some ((.inl (gI g b73 5), g), 0, 0)
                    else
                      if x1 = 11 then
                        wk_ g a0 1 <|
                          nn_ (gR g a0 7) fun b78 =>
                          wk_ g b78 12 <|
                          ob_ (J2_size b78 g) fun r82 =>
                          some ((.inl r82, g), 0, 0)
                      else
                        if x1 = 12 then
                          wk_ g a0 1 <|
                            nn_ (gR g a0 8) fun b85 =>
                            wk_ g b85 12 <|
                            ob_ (J2_size b85 g) fun r89 =>
                            some ((.inl r89, g), 0, 0)
                        else
                          if x1 = 13 then
                            wk_ g a0 1 <|
                              nn_ (gR g a0 9) fun b92 =>
                              wk_ g b92 12 <|
                              ob_ (J2_size b92 g) fun r96 =>
                              some ((.inl r96, g), 0, 0)
                          else
                            if x1 = 14 then
                              wk_ g a0 1 <|
                                some ((.inl (gI g a0 4), g), 0, 0)
                            else
                              ob_ (X1_in x1 15 17) fun r100 =>
                                tc_ (X1_found r100 g) (fun e104 g103 => some ((.inr e104, g103), 0, 0)) fun r102 g103 =>
                                wk_ g103 a0 1 <|
                                nn_ (gR g103 a0 6) fun b108 =>
                                rk_ g103 b108 100 <|
                                in_ (x1 - 15) (gN g103 b108) <|
                                some ((.inl (gI g103 b108 (x1 - 15).toNatClampNeg), g103), 0, 0)
def X1_chalk_j36 (a0 : Nat) (g : GS) : Option (((Int32 ⊕ (Nat × Nat)) × GS) × Nat × Nat) :=
  wk_ g a0 1 <|
  cb_ (X1_refuse a0 1 g) fun r14 g13 =>
  some ((.inl r14, g13), 0, 0)
/-- RingHand.chalk(II)I -/
def X1_chalk (a0 : Nat) (x1 : Int32) (x2 : Int32) (g : GS) : Option (((Int32 ⊕ (Nat × Nat)) × GS) × Nat × Nat) :=
  wk_ g a0 1 <|
  tc_ (X1_aMark a0 x1 g) (fun e5 g4 => some ((.inr e5, g4), 0, 0)) fun r3 g4 =>
  ob_ (X1_in x2 12 480) fun r9 =>
  if r9 = 0 then
  X1_chalk_j36 a0 g4
else
  wk_ g4 a0 1 <|
    nn_ (gR g4 a0 1) fun b16 =>
    wk_ g4 b16 3 <|
    nn_ (gR g4 b16 6) fun b19 =>
    ca_ (J19_valueOf x2 g4) fun r23 g22 =>
    wk_ g22 b19 12 <|
    ob_ (J2_contains b19 r23 g22) fun r28 =>
    if r28 = 0 then
    wk_ g22 a0 1 <|
      ca_ (X1_keep a0 g22) fun r33 g32 =>
      wk_ g32 a0 1 <|
      nn_ (gR g32 a0 1) fun b37 =>
      wk_ g32 b37 3 <|
      nn_ (gR g32 b37 6) fun b40 =>
      ca_ (J19_valueOf x2 g32) fun r44 g43 =>
      wk_ g43 b40 12 <|
      cb_ (J2_set b40 x1 r44 g43) fun r50 g49 =>
      rk_ g49 r50 14 <|
      ob_ (J19_intValue r50 g49) fun r53 =>
      some ((.inl r53, g49), 0, 0)
  else
    X1_chalk_j36 a0 g22
def X1_best_j115 (a0 : Nat) (x1 : Int32) (a2 : Nat) (x3 : Int32) (x4 : Int32) (x5 : Int32) (g : GS) : Option (((Int32 × Int32 × Int32 × GS) ⊕ (Int32 × Int32 × GS)) × Nat × Nat) :=
  some (.inl (x3, x4, x5 + 1, g), 0, 0)
def X1_best_j108 (a0 : Nat) (x1 : Int32) (a2 : Nat) (x5 : Int32) (x6 : Int32) (g : GS) : Option (((Int32 × Int32 × Int32 × GS) ⊕ (Int32 × Int32 × GS)) × Nat × Nat) :=
  X1_best_j115 a0 x1 a2 x5 x6 x5 g
def X1_best_j76 (a0 : Nat) (x1 : Int32) (a2 : Nat) (x3 : Int32) (x4 : Int32) (x5 : Int32) (t0 : Int32) (g : GS) : Option (((Int32 × Int32 × Int32 × GS) ⊕ (Int32 × Int32 × GS)) × Nat × Nat) :=
  if x3 = (-1) then
  X1_best_j108 a0 x1 a2 x5 t0 g
else
  if 2 ≤ x1 then
    if t0 < x4 then
      X1_best_j108 a0 x1 a2 x5 t0 g
    else
      X1_best_j115 a0 x1 a2 x3 x4 x5 g
  else
    if x4 < t0 then
      X1_best_j108 a0 x1 a2 x5 t0 g
    else
      X1_best_j115 a0 x1 a2 x3 x4 x5 g
def X1_best_b29 (a0 : Nat) (x1 : Int32) (a2 : Nat) (x3 : Int32) (x4 : Int32) (x5 : Int32) (g : GS) : Option (((Int32 × Int32 × Int32 × GS) ⊕ (Int32 × Int32 × GS)) × Nat × Nat) :=
  wk_ g a0 1 <|
  nn_ (gR g a0 0) fun b26 =>
  wk_ g b26 2 <|
  nn_ (gR g b26 2) fun b29 =>
  wk_ g b29 12 <|
  ob_ (J2_size b29 g) fun r33 =>
  if r33 ≤ x5 then
  some (.inr (x3, x4, g), 0, 0)
else
  wk_ g a2 10 <|
    nn_ (gR g a2 0) fun b36 =>
    wk_ g b36 3 <|
    cb_ (X11_run a2 (pI g b36 4 x5)) fun r41 g40 =>
    if 2 ≤ x1 then
    wk_ g40 a2 10 <|
      ob_ (X11_worst a2 g40) fun r45 =>
      X1_best_j76 a0 x1 a2 x3 x4 x5 r45 g40
  else
    wk_ g40 a2 10 <|
      ob_ (X11_sharp a2 g40) fun r52 =>
      X1_best_j76 a0 x1 a2 x3 x4 x5 r52 g40
/-- RingHand.best(I)I -/
def X1_best (a0 : Nat) (x1 : Int32) (g : GS) : Option (((Int32 ⊕ (Nat × Nat)) × GS) × Nat × Nat) :=
  tc_ (X1_oneOf x1 3 g) (fun e4 g3 => some ((.inr e4, g3), 0, 0)) fun r2 g3 =>
  al_ g3 10 8 fun u7 g8 =>
  wk_ g8 a0 1 <|
  nn_ (gR g8 a0 1) fun b12 =>
  wk_ g8 b12 3 <|
  ca_ (X3_copy b12 g8) fun r17 g16 =>
  ca_ (X11_init u7 a0 r17 g16) fun r22 g21 =>
  oa_ (la_ (fun a => X1_best_b29 a0 x1 u7 a.1 a.2.1 a.2.2.1 a.2.2.2) fu_ ((-1), (-1), 0, g21)) fun e53 =>
  dv_ 2 <|
  if (x1 - x1 / 2 * 2) = 0 then
  some ((.inl e53.1, e53.2.2), 0, 0)
else
  some ((.inl e53.2.1, e53.2.2), 0, 0)
def X1_foretell_j86 (x1 : Int32) (a2 : Nat) (x3 : Int32) (x4 : Int32) (x5 : Int32) (g : GS) : Option (((Int32 × Int32 × Int32 × GS) ⊕ (Int32 × Int32 × GS)) × Nat × Nat) :=
  some (.inl (x3, x4, x5 + 1, g), 0, 0)
def X1_foretell_j55 (x1 : Int32) (a2 : Nat) (x3 : Int32) (x4 : Int32) (x5 : Int32) (t0 : Nat) (t1 : Int32) (g : GS) : Option (((Int32 × Int32 × Int32 × GS) ⊕ (Int32 × Int32 × GS)) × Nat × Nat) :=
  wk_ g t0 10 <|
  wk_ (pI g t0 5 t1) a2 10 <|
  cb_ (X11_run a2 (pI g t0 5 t1)) fun r27 g26 =>
  wk_ g26 r27 10 <|
  ob_ (X11_sharp r27 g26) fun r30 =>
  if x4 < r30 then
  wk_ g26 a2 10 <|
    X1_foretell_j86 x1 a2 (gI g26 a2 5) r30 x5 g26
else
  X1_foretell_j86 x1 a2 x3 x4 x5 g26
def X1_foretell_b26 (x1 : Int32) (a2 : Nat) (x3 : Int32) (x4 : Int32) (x5 : Int32) (g : GS) : Option (((Int32 × Int32 × Int32 × GS) ⊕ (Int32 × Int32 × GS)) × Nat × Nat) :=
  if 48 < x5 then
  some (.inr (x3, x4, g), 0, 0)
else
  dv_ 2 <|
    if (x5 - x5 / 2 * 2) = 0 then
    dv_ 2 <|
      X1_foretell_j55 x1 a2 x3 x4 x5 a2 (x5 / 2) g
  else
    dv_ 2 <|
      X1_foretell_j55 x1 a2 x3 x4 x5 a2 ((-(x5 + 1)) / 2) g
/-- RingHand.foretell(I)I -/
def X1_foretell (a0 : Nat) (x1 : Int32) (g : GS) : Option (((Int32 ⊕ (Nat × Nat)) × GS) × Nat × Nat) :=
  tc_ (X1_oneOf x1 1 g) (fun e4 g3 => some ((.inr e4, g3), 0, 0)) fun r2 g3 =>
  al_ g3 10 8 fun u7 g8 =>
  wk_ g8 a0 1 <|
  nn_ (gR g8 a0 1) fun b12 =>
  ca_ (X11_init u7 a0 b12 g8) fun r16 g15 =>
  oa_ (la_ (fun a => X1_foretell_b26 x1 u7 a.1 a.2.1 a.2.2.1 a.2.2.2) fu_ (0, (-1), 0, g15)) fun e34 =>
  if x1 = 0 then
  some ((.inl e34.1, e34.2.2), 0, 0)
else
  some ((.inl e34.2.1, e34.2.2), 0, 0)
def X1_holes_b18 (x1 : Int32) (a2 : Nat) (x3 : Int32) (g : GS) : Option (((Int32 × GS) ⊕ (((Int32 × GS) ⊕ (GS)))) × Nat × Nat) :=
  if 60 < x3 then
  some (.inr (.inr g), 0, 0)
else
  wk_ g a2 10 <|
    ob_ (X11_sharp_2 a2 x3 g) fun r18 =>
    if r18 < x1 then
    some (.inl (x3 + 1, g), 0, 0)
  else
    some (.inr (.inl (x3, g)), 0, 0)
/-- RingHand.holes(I)I -/
def X1_holes (a0 : Nat) (x1 : Int32) (g : GS) : Option (((Int32 ⊕ (Nat × Nat)) × GS) × Nat × Nat) :=
  ob_ (X1_in x1 0 601) fun r2 =>
  tc_ (X1_right r2 g) (fun e6 g5 => some ((.inr e6, g5), 0, 0)) fun r4 g5 =>
  wk_ g5 a0 1 <|
  ca_ (X1_take a0 g5) fun r12 g11 =>
  oa_ (la_ (fun a => X1_holes_b18 x1 r12 a.1 a.2) fu_ (1, g11)) fun e20 =>
  Sum.elim (fun e20a => some ((.inl e20a.1, e20a.2), 0, 0)) (fun e20b => some ((.inl (-1), e20b), 0, 0)) e20
def X1_light_j146 (a0 : Nat) (x1 : Int32) (x2 : Int32) (a3 : Nat) (x4 : Int32) (x5 : Int64) (x7 : Int64) (x9 : Int32) (g : GS) : Option (((Int32 × Int64 × Int64 × Int32 × GS) ⊕ (Int32 × GS)) × Nat × Nat) :=
  some (.inl (x4, x5, x7, x9 + 1, g), 0, 0)
def X1_light_j134 (a0 : Nat) (x1 : Int32) (x2 : Int32) (a3 : Nat) (x9 : Int32) (x10 : Int64) (x12 : Int64) (g : GS) : Option (((Int32 × Int64 × Int64 × Int32 × GS) ⊕ (Int32 × GS)) × Nat × Nat) :=
  X1_light_j146 a0 x1 x2 a3 x9 x12 x10 x9 g
def X1_light_b45 (a0 : Nat) (x1 : Int32) (x2 : Int32) (a3 : Nat) (x4 : Int32) (x5 : Int64) (x7 : Int64) (x9 : Int32) (g : GS) : Option (((Int32 × Int64 × Int64 × Int32 × GS) ⊕ (Int32 × GS)) × Nat × Nat) :=
  wk_ g a0 1 <|
  nn_ (gR g a0 1) fun b17 =>
  wk_ g b17 3 <|
  if (60 - (gI g b17 0)) < x9 then
  some (.inr (x4, g), 0, 0)
else
  nn_ (gR g a0 1) fun b21 =>
    wk_ g b21 3 <|
    wk_ g a3 10 <|
    ob_ (X11_sharp_2 a3 ((gI g b21 0) + x9) g) fun r26 =>
    if (lg_cmp r26.toInt64 0) = 0 then
    X1_light_j146 a0 x1 x2 a3 x4 x5 x7 x9 g
  else
    nn_ (gR g a0 0) fun b28 =>
      wk_ g b28 2 <|
      if x4 = (-1) then
      X1_light_j134 a0 x1 x2 a3 x9 r26.toInt64 ((((x9 * x1).toInt64) * r26.toInt64) + (x2.toInt64 * (((gI g b28 6) + 1).toInt64))) g
    else
      if (lg_cmp (((((x9 * x1).toInt64) * r26.toInt64) + (x2.toInt64 * (((gI g b28 6) + 1).toInt64))) * x7) (x5 * r26.toInt64)) < 0 then
        X1_light_j134 a0 x1 x2 a3 x9 r26.toInt64 ((((x9 * x1).toInt64) * r26.toInt64) + (x2.toInt64 * (((gI g b28 6) + 1).toInt64))) g
      else
        X1_light_j146 a0 x1 x2 a3 x4 x5 x7 x9 g
def X1_light_j25 (a0 : Nat) (x1 : Int32) (x2 : Int32) (t0 : Int32) (g : GS) : Option (((Int32 ⊕ (Nat × Nat)) × GS) × Nat × Nat) :=
  tc_ (X1_right t0 g) (fun e7 g6 => some ((.inr e7, g6), 0, 0)) fun r5 g6 =>
  wk_ g6 a0 1 <|
  ca_ (X1_take a0 g6) fun r13 g12 =>
  oa_ (la_ (fun a => X1_light_b45 a0 x1 x2 r13 a.1 a.2.1 a.2.2.1 a.2.2.2.1 a.2.2.2.2) fu_ ((-1), 0, 1, 0, g12)) fun e33 =>
  some ((.inl e33.1, e33.2), 0, 0)
def X1_light_j24 (a0 : Nat) (x1 : Int32) (x2 : Int32) (g : GS) : Option (((Int32 ⊕ (Nat × Nat)) × GS) × Nat × Nat) :=
  X1_light_j25 a0 x1 x2 0 g
/-- RingHand.light(II)I -/
def X1_light (a0 : Nat) (x1 : Int32) (x2 : Int32) (g : GS) : Option (((Int32 ⊕ (Nat × Nat)) × GS) × Nat × Nat) :=
  ob_ (X1_in x1 0 99) fun r2 =>
  if r2 = 0 then
  X1_light_j24 a0 x1 x2 g
else
  ob_ (X1_in x2 1 99) fun r37 =>
    if r37 = 0 then
    X1_light_j24 a0 x1 x2 g
  else
    X1_light_j25 a0 x1 x2 1 g
def X1_marks_j54 (a2 : Nat) (g : GS) : Option (((Int32 ⊕ (Nat × Nat)) × GS) × Nat × Nat) :=
  wk_ g a2 11 <|
  some ((.inl (gI g a2 3), g), 0, 0)
/-- RingHand.marks(I)I -/
def X1_marks (a0 : Nat) (x1 : Int32) (g : GS) : Option (((Int32 ⊕ (Nat × Nat)) × GS) × Nat × Nat) :=
  ob_ (X1_in x1 0 3) fun r2 =>
  tc_ (X1_right r2 g) (fun e6 g5 => some ((.inr e6, g5), 0, 0)) fun r4 g5 =>
  al_ g5 11 5 fun u9 g10 =>
  ca_ (X12_init u9 a0 g10) fun r15 g14 =>
  wk_ g14 u9 11 <|
  nn_ (gR g14 u9 1) fun b19 =>
  wk_ g14 b19 10 <|
  nn_ (gR g14 b19 0) fun b22 =>
  wk_ g14 b22 3 <|
  nn_ (gR g14 b22 6) fun b25 =>
  wk_ g14 b25 12 <|
  ob_ (J2_clear b25 g14) fun g29 =>
  wk_ g29 u9 11 <|
  ca_ (X12_go u9 0 x1 g29) fun r33 g32 =>
  wk_ g32 u9 11 <|
  if (gR g32 u9 2) = 0 then
  X1_marks_j54 u9 g32
else
  nn_ (gR g32 u9 2) fun b39 =>
    wk_ g32 a0 1 <|
    X1_marks_j54 u9 (pR g32 a0 10 (b39 + 1))
def X1_kept_2_j29 (a0 : Nat) (x1 : Int32) (t0 : Int32) (g : GS) : Option (((Int32 ⊕ (Nat × Nat)) × GS) × Nat × Nat) :=
  tc_ (X1_found t0 g) (fun e6 g5 => some ((.inr e6, g5), 0, 0)) fun r4 g5 =>
  wk_ g5 a0 1 <|
  nn_ (gR g5 a0 10) fun b10 =>
  wk_ g5 b10 12 <|
  ob_ (J2_get b10 x1 g5) fun r14 =>
  rk_ g5 r14 14 <|
  ob_ (J19_intValue r14 g5) fun r17 =>
  some ((.inl r17, g5), 0, 0)
def X1_kept_2_j28 (a0 : Nat) (x1 : Int32) (g : GS) : Option (((Int32 ⊕ (Nat × Nat)) × GS) × Nat × Nat) :=
  X1_kept_2_j29 a0 x1 0 g
/-- RingHand.kept(I)I -/
def X1_kept_2 (a0 : Nat) (x1 : Int32) (g : GS) : Option (((Int32 ⊕ (Nat × Nat)) × GS) × Nat × Nat) :=
  wk_ g a0 1 <|
  if (gR g a0 10) = 0 then
  X1_kept_2_j28 a0 x1 g
else
  if x1 < 0 then
    X1_kept_2_j28 a0 x1 g
  else
    nn_ (gR g a0 10) fun b19 =>
      wk_ g b19 12 <|
      ob_ (J2_size b19 g) fun r23 =>
      if r23 ≤ x1 then
      X1_kept_2_j28 a0 x1 g
    else
      X1_kept_2_j29 a0 x1 1 g
def X1_runs_j97 (a0 : Nat) (x1 : Int32) (x2 : Int32) (a3 : Nat) (x4 : Int32) (x5 : Int32) (x6 : Int32) (g : GS) : Option (((Int32 × Int32 × Int32 × GS) ⊕ (((Int32 × Int32 × GS) ⊕ (Int32 × GS)))) × Nat × Nat) :=
  some (.inl (x4, x5, x6 + 1, g), 0, 0)
def X1_runs_j94 (a0 : Nat) (x1 : Int32) (x2 : Int32) (a3 : Nat) (x4 : Int32) (x6 : Int32) (g : GS) : Option (((Int32 × Int32 × Int32 × GS) ⊕ (((Int32 × Int32 × GS) ⊕ (Int32 × GS)))) × Nat × Nat) :=
  X1_runs_j97 a0 x1 x2 a3 x4 0 x6 g
def X1_runs_j86 (a0 : Nat) (x1 : Int32) (x2 : Int32) (a3 : Nat) (x4 : Int32) (x5 : Int32) (x6 : Int32) (g : GS) : Option (((Int32 × Int32 × Int32 × GS) ⊕ (((Int32 × Int32 × GS) ⊕ (Int32 × GS)))) × Nat × Nat) :=
  if x5 ≤ 0 then
  X1_runs_j94 a0 x1 x2 a3 x4 x6 g
else
  X1_runs_j94 a0 x1 x2 a3 (x4 + 1) x6 g
def X1_runs_j60 (a0 : Nat) (x1 : Int32) (x2 : Int32) (a3 : Nat) (x4 : Int32) (x5 : Int32) (x6 : Int32) (g : GS) : Option (((Int32 × Int32 × Int32 × GS) ⊕ (((Int32 × Int32 × GS) ⊕ (Int32 × GS)))) × Nat × Nat) :=
  if x5 ≤ 0 then
  X1_runs_j86 a0 x1 x2 a3 x4 x5 x6 g
else
  if x4 = x1 then
    some (.inr (.inl (x5, x6, g)), 0, 0)
  else
    X1_runs_j86 a0 x1 x2 a3 x4 x5 x6 g
def X1_runs_b19 (a0 : Nat) (x1 : Int32) (x2 : Int32) (a3 : Nat) (x4 : Int32) (x5 : Int32) (x6 : Int32) (g : GS) : Option (((Int32 × Int32 × Int32 × GS) ⊕ (((Int32 × Int32 × GS) ⊕ (Int32 × GS)))) × Nat × Nat) :=
  wk_ g a0 1 <|
  nn_ (gR g a0 0) fun b14 =>
  wk_ g b14 2 <|
  if ((gI g b14 6) + 1) < x6 then
  some (.inr (.inr (x4, g)), 0, 0)
else
  nn_ (gR g a0 0) fun b18 =>
    wk_ g b18 2 <|
    if (gI g b18 6) < x6 then
    X1_runs_j60 a0 x1 x2 a3 x4 x5 x6 g
  else
    wk_ g a3 10 <|
      ob_ (X11_isSharp_2 a3 x6 g) fun r27 =>
      if r27 = 0 then
      X1_runs_j97 a0 x1 x2 a3 x4 (x5 + 1) x6 g
    else
      X1_runs_j60 a0 x1 x2 a3 x4 x5 x6 g
def X1_runs_j113 (x4 : Int32) (t0 : Int32) (g : GS) : Option (((Int32 ⊕ (Nat × Nat)) × GS) × Nat × Nat) :=
  tc_ (X1_found t0 g) (fun e37 g36 => some ((.inr e37, g36), 0, 0)) fun r35 g36 =>
  some ((.inl x4, g36), 0, 0)
/-- RingHand.runs(II)I -/
def X1_runs (a0 : Nat) (x1 : Int32) (x2 : Int32) (g : GS) : Option (((Int32 ⊕ (Nat × Nat)) × GS) × Nat × Nat) :=
  tc_ (X1_oneOf x2 1 g) (fun e4 g3 => some ((.inr e4, g3), 0, 0)) fun r2 g3 =>
  wk_ g3 a0 1 <|
  ca_ (X1_take a0 g3) fun r10 g9 =>
  oa_ (la_ (fun a => X1_runs_b19 a0 x1 x2 r10 a.1 a.2.1 a.2.2.1 a.2.2.2) fu_ (0, 0, 0, g9)) fun e29 =>
  Sum.elim (fun e29a => if x2 = 0 then
  some ((.inl (e29a.2.1 - e29a.1), e29a.2.2), 0, 0)
else
  some ((.inl e29a.1, e29a.2.2), 0, 0)) (fun e29b => if x1 = (-1) then
  X1_runs_j113 e29b.1 1 e29b.2
else
  X1_runs_j113 e29b.1 0 e29b.2) e29
def X1_shift_j86 (x1 : Int32) (a2 : Nat) (x3 : Int32) (x4 : Int32) (x5 : Int32) (g : GS) : Option (((Int32 × Int32 × Int32 × GS) ⊕ (Int32 × Int32 × GS)) × Nat × Nat) :=
  some (.inl (x3, x4, x5 + 1, g), 0, 0)
def X1_shift_j55 (x1 : Int32) (a2 : Nat) (x3 : Int32) (x4 : Int32) (x5 : Int32) (t0 : Nat) (t1 : Int32) (g : GS) : Option (((Int32 × Int32 × Int32 × GS) ⊕ (Int32 × Int32 × GS)) × Nat × Nat) :=
  wk_ g t0 10 <|
  wk_ (pI g t0 6 t1) a2 10 <|
  cb_ (X11_run a2 (pI g t0 6 t1)) fun r27 g26 =>
  wk_ g26 r27 10 <|
  ob_ (X11_sharp r27 g26) fun r30 =>
  if x4 < r30 then
  wk_ g26 a2 10 <|
    X1_shift_j86 x1 a2 (gI g26 a2 6) r30 x5 g26
else
  X1_shift_j86 x1 a2 x3 x4 x5 g26
def X1_shift_b26 (x1 : Int32) (a2 : Nat) (x3 : Int32) (x4 : Int32) (x5 : Int32) (g : GS) : Option (((Int32 × Int32 × Int32 × GS) ⊕ (Int32 × Int32 × GS)) × Nat × Nat) :=
  if 48 < x5 then
  some (.inr (x3, x4, g), 0, 0)
else
  dv_ 2 <|
    if (x5 - x5 / 2 * 2) = 0 then
    dv_ 2 <|
      X1_shift_j55 x1 a2 x3 x4 x5 a2 (x5 / 2) g
  else
    dv_ 2 <|
      X1_shift_j55 x1 a2 x3 x4 x5 a2 ((-(x5 + 1)) / 2) g
/-- RingHand.shift(I)I -/
def X1_shift (a0 : Nat) (x1 : Int32) (g : GS) : Option (((Int32 ⊕ (Nat × Nat)) × GS) × Nat × Nat) :=
  tc_ (X1_oneOf x1 1 g) (fun e4 g3 => some ((.inr e4, g3), 0, 0)) fun r2 g3 =>
  al_ g3 10 8 fun u7 g8 =>
  wk_ g8 a0 1 <|
  nn_ (gR g8 a0 1) fun b12 =>
  ca_ (X11_init u7 a0 b12 g8) fun r16 g15 =>
  oa_ (la_ (fun a => X1_shift_b26 x1 u7 a.1 a.2.1 a.2.2.1 a.2.2.2) fu_ (0, (-1), 0, g15)) fun e34 =>
  if x1 = 0 then
  some ((.inl e34.1, e34.2.2), 0, 0)
else
  some ((.inl e34.2.1, e34.2.2), 0, 0)
def X1_slip_j70 (x1 : Int32) (a2 : Nat) (x3 : Int32) (x4 : Int32) (g : GS) : Option (((Int32 × Int32 × GS) ⊕ (Int32 × Int32 × GS)) × Nat × Nat) :=
  wk_ g a2 10 <|
  some (.inl (x3, x4, pI g a2 4 ((gI g a2 4) + 1)), 0, 0)
def X1_slip_j61 (x1 : Int32) (a2 : Nat) (x5 : Int32) (g : GS) : Option (((Int32 × Int32 × GS) ⊕ (Int32 × Int32 × GS)) × Nat × Nat) :=
  wk_ g a2 10 <|
  X1_slip_j70 x1 a2 (gI g a2 4) x5 g
def X1_slip_b28 (x1 : Int32) (a2 : Nat) (x3 : Int32) (x4 : Int32) (g : GS) : Option (((Int32 × Int32 × GS) ⊕ (Int32 × Int32 × GS)) × Nat × Nat) :=
  wk_ g a2 10 <|
  if 30 < (gI g a2 4) then
  some (.inr (x3, x4, g), 0, 0)
else
  cb_ (X11_run a2 g) fun r24 g23 =>
    wk_ g23 r24 10 <|
    ob_ (X11_sharp r24 g23) fun r27 =>
    if x3 = (-1) then
    X1_slip_j61 x1 a2 r27 g23
  else
    if r27 < x4 then
      X1_slip_j61 x1 a2 r27 g23
    else
      X1_slip_j70 x1 a2 x3 x4 g23
/-- RingHand.slip(I)I -/
def X1_slip (a0 : Nat) (x1 : Int32) (g : GS) : Option (((Int32 ⊕ (Nat × Nat)) × GS) × Nat × Nat) :=
  tc_ (X1_oneOf x1 1 g) (fun e4 g3 => some ((.inr e4, g3), 0, 0)) fun r2 g3 =>
  al_ g3 10 8 fun u7 g8 =>
  wk_ g8 a0 1 <|
  nn_ (gR g8 a0 1) fun b12 =>
  ca_ (X11_init u7 a0 b12 g8) fun r16 g15 =>
  wk_ g15 u7 10 <|
  oa_ (la_ (fun a => X1_slip_b28 x1 u7 a.1 a.2.1 a.2.2) fu_ ((-1), 0, pI g15 u7 4 0)) fun e32 =>
  if x1 = 0 then
  some ((.inl e32.1, e32.2.2), 0, 0)
else
  some ((.inl e32.2.1, e32.2.2), 0, 0)
def X1_lags_j67 (x1 : Int32) (a2 : Nat) (x3 : Int32) (x4 : Int32) (g : GS) : Option (((Int32 × Int32 × GS) ⊕ (Int32 × GS)) × Nat × Nat) :=
  some (.inl (x3, x4 + 1, g), 0, 0)
def X1_lags_j64 (x1 : Int32) (a2 : Nat) (x4 : Int32) (g : GS) : Option (((Int32 × Int32 × GS) ⊕ (Int32 × GS)) × Nat × Nat) :=
  X1_lags_j67 x1 a2 x4 x4 g
def X1_lags_b26 (x1 : Int32) (a2 : Nat) (x3 : Int32) (x4 : Int32) (g : GS) : Option (((Int32 × Int32 × GS) ⊕ (Int32 × GS)) × Nat × Nat) :=
  if 24 < x4 then
  some (.inr (x3, g), 0, 0)
else
  wk_ g a2 10 <|
    nn_ (gR g a2 0) fun b27 =>
    wk_ g b27 3 <|
    cb_ (X11_run a2 (pI g b27 1 x4)) fun r32 g31 =>
    wk_ g31 r32 10 <|
    ob_ (X11_isAsSeen r32 g31) fun r35 =>
    if r35 = 0 then
    X1_lags_j67 x1 a2 x3 x4 g31
  else
    if x1 = 0 then
      if x3 = (-1) then
        X1_lags_j64 x1 a2 x4 g31
      else
        X1_lags_j67 x1 a2 x3 x4 g31
    else
      X1_lags_j64 x1 a2 x4 g31
/-- RingHand.lags(I)I -/
def X1_lags (a0 : Nat) (x1 : Int32) (g : GS) : Option (((Int32 ⊕ (Nat × Nat)) × GS) × Nat × Nat) :=
  tc_ (X1_oneOf x1 1 g) (fun e4 g3 => some ((.inr e4, g3), 0, 0)) fun r2 g3 =>
  al_ g3 10 8 fun u7 g8 =>
  wk_ g8 a0 1 <|
  nn_ (gR g8 a0 1) fun b12 =>
  wk_ g8 b12 3 <|
  ca_ (X3_copy b12 g8) fun r17 g16 =>
  ca_ (X11_init u7 a0 r17 g16) fun r22 g21 =>
  oa_ (la_ (fun a => X1_lags_b26 x1 u7 a.1 a.2.1 a.2.2) fu_ ((-1), 0, g21)) fun e39 =>
  some ((.inl e39.1, e39.2), 0, 0)
def X1_depth_j66 (a0 : Nat) (x1 : Int32) (x2 : Int32) (x3 : Int32) (x4 : Int32) (g : GS) : Option (((Int32 × Int32 × GS) ⊕ (Int32 × GS)) × Nat × Nat) :=
  some (.inl (x3, x4 + 1, g), 0, 0)
def X1_depth_j63 (a0 : Nat) (x1 : Int32) (x2 : Int32) (x4 : Int32) (g : GS) : Option (((Int32 × Int32 × GS) ⊕ (Int32 × GS)) × Nat × Nat) :=
  X1_depth_j66 a0 x1 x2 x4 x4 g
def X1_depth_b22 (a0 : Nat) (x1 : Int32) (x2 : Int32) (x3 : Int32) (x4 : Int32) (g : GS) : Option (((Int32 × Int32 × GS) ⊕ (Int32 × GS)) × Nat × Nat) :=
  if 480 < x4 then
  some (.inr (x3, g), 0, 0)
else
  wk_ g a0 1 <|
    cb_ (X1_turnOf a0 x4 g) fun r19 g18 =>
    wk_ g18 a0 1 <|
    nn_ (gR g18 a0 1) fun b21 =>
    wk_ g18 b21 3 <|
    if (gI g18 b21 0) < (jabs_ (r19 - x1)) then
    X1_depth_j66 a0 x1 x2 x3 x4 g18
  else
    if x2 = 0 then
      if x3 = (-1) then
        X1_depth_j63 a0 x1 x2 x4 g18
      else
        X1_depth_j66 a0 x1 x2 x3 x4 g18
    else
      X1_depth_j63 a0 x1 x2 x4 g18
/-- RingHand.depth(II)I -/
def X1_depth (a0 : Nat) (x1 : Int32) (x2 : Int32) (g : GS) : Option (((Int32 ⊕ (Nat × Nat)) × GS) × Nat × Nat) :=
  tc_ (X1_oneOf x2 1 g) (fun e4 g3 => some ((.inr e4, g3), 0, 0)) fun r2 g3 =>
  ob_ (X1_in x1 0 999) fun r8 =>
  tc_ (X1_right r8 g3) (fun e12 g11 => some ((.inr e12, g11), 0, 0)) fun r10 g11 =>
  oa_ (la_ (fun a => X1_depth_b22 a0 x1 x2 a.1 a.2.1 a.2.2) fu_ ((-1), 12, g11)) fun e27 =>
  some ((.inl e27.1, e27.2), 0, 0)
def X1_shots_j64 (a0 : Nat) (x1 : Int32) (a2 : Nat) (x3 : Int32) (x4 : Int32) (x5 : Int32) (g : GS) : Option (((Int32 × Int32 × Int32 × GS) ⊕ (Int32 × GS)) × Nat × Nat) :=
  some (.inl (x3, x4, x5 + 1, g), 0, 0)
def X1_shots_j53 (a0 : Nat) (x1 : Int32) (a2 : Nat) (x3 : Int32) (x5 : Int32) (t0 : Int32) (g : GS) : Option (((Int32 × Int32 × Int32 × GS) ⊕ (Int32 × GS)) × Nat × Nat) :=
  if t0 < x1 then
  X1_shots_j64 a0 x1 a2 x3 t0 x5 g
else
  X1_shots_j64 a0 x1 a2 (x3 + 1) t0 x5 g
def X1_shots_b24 (a0 : Nat) (x1 : Int32) (a2 : Nat) (x3 : Int32) (x4 : Int32) (x5 : Int32) (g : GS) : Option (((Int32 × Int32 × Int32 × GS) ⊕ (Int32 × GS)) × Nat × Nat) :=
  wk_ g a0 1 <|
  nn_ (gR g a0 0) fun b16 =>
  wk_ g b16 2 <|
  if (gI g b16 6) < x5 then
  some (.inr (x3, g), 0, 0)
else
  wk_ g a2 10 <|
    ob_ (X11_isSharp_2 a2 x5 g) fun r22 =>
    if r22 = 0 then
    X1_shots_j53 a0 x1 a2 x3 x5 0 g
  else
    X1_shots_j53 a0 x1 a2 x3 x5 (x4 + 1) g
/-- RingHand.shots(I)I -/
def X1_shots (a0 : Nat) (x1 : Int32) (g : GS) : Option (((Int32 ⊕ (Nat × Nat)) × GS) × Nat × Nat) :=
  ob_ (X1_in x1 1 601) fun r2 =>
  tc_ (X1_right r2 g) (fun e6 g5 => some ((.inr e6, g5), 0, 0)) fun r4 g5 =>
  wk_ g5 a0 1 <|
  ca_ (X1_take a0 g5) fun r12 g11 =>
  oa_ (la_ (fun a => X1_shots_b24 a0 x1 r12 a.1 a.2.1 a.2.2.1 a.2.2.2) fu_ (0, 0, 0, g11)) fun e25 =>
  some ((.inl e25.1, e25.2), 0, 0)
def X1_quickest_j103 (a0 : Nat) (x1 : Int32) (a2 : Nat) (x3 : Int32) (x4 : Int32) (x5 : Int32) (g : GS) : Option (((Int32 × Int32 × Int32 × GS) ⊕ (Int32 × Int32 × GS)) × Nat × Nat) :=
  some (.inl (x3, x4, x5 + 1, g), 0, 0)
def X1_quickest_b26 (a0 : Nat) (x1 : Int32) (a2 : Nat) (x3 : Int32) (x4 : Int32) (x5 : Int32) (g : GS) : Option (((Int32 × Int32 × Int32 × GS) ⊕ (Int32 × Int32 × GS)) × Nat × Nat) :=
  wk_ g a0 1 <|
  nn_ (gR g a0 0) fun b20 =>
  wk_ g b20 2 <|
  if (gI g b20 6) < x5 then
  some (.inr (x3, x4, g), 0, 0)
else
  nn_ (gR g a0 0) fun b24 =>
    wk_ g b24 2 <|
    ob_ (X2_isHis b24 x5 g) fun r28 =>
    wk_ g a2 10 <|
    ob_ (X11_inches a2 x5 r28 g) fun r31 =>
    cb_ (X1_turnOf a0 r31 g) fun r34 g33 =>
    wk_ g33 a0 1 <|
    nn_ (gR g33 a0 0) fun b36 =>
    wk_ g33 b36 2 <|
    ob_ (X2_isHis b36 (x5 - 1) g33) fun r40 =>
    wk_ g33 a2 10 <|
    ob_ (X11_inches a2 (x5 - 1) r40 g33) fun r43 =>
    cb_ (X1_turnOf a0 r43 g33) fun r46 g45 =>
    if x4 < (jabs_ (r34 - r46)) then
    X1_quickest_j103 a0 x1 a2 x5 (jabs_ (r34 - r46)) x5 g45
  else
    X1_quickest_j103 a0 x1 a2 x3 x4 x5 g45
/-- RingHand.quickest(I)I -/
def X1_quickest (a0 : Nat) (x1 : Int32) (g : GS) : Option (((Int32 ⊕ (Nat × Nat)) × GS) × Nat × Nat) :=
  tc_ (X1_oneOf x1 1 g) (fun e4 g3 => some ((.inr e4, g3), 0, 0)) fun r2 g3 =>
  al_ g3 10 8 fun u7 g8 =>
  wk_ g8 a0 1 <|
  nn_ (gR g8 a0 1) fun b12 =>
  ca_ (X11_init u7 a0 b12 g8) fun r16 g15 =>
  oa_ (la_ (fun a => X1_quickest_b26 a0 x1 u7 a.1 a.2.1 a.2.2.1 a.2.2.2) fu_ (0, (-1), 1, g15)) fun e48 =>
  if x1 = 0 then
  some ((.inl (jmax_ 0 e48.2.1), e48.2.2), 0, 0)
else
  some ((.inl e48.1, e48.2.2), 0, 0)
def X1_takes_j137 (a0 : Nat) (x2 : Int32) (x3 : Int32) (x4 : Int32) (x5 : Int32) (a6 : Nat) (x7 : Int32) (x8 : Int32) (x10 : Int32) (t0 : Int32) (g : GS) : Option (((Int32 × Int32 × Int32 × Int32 × GS) ⊕ (Int32 × Int32 × Int32 × GS)) × Nat × Nat) :=
  some (.inl (x7, x8, t0, x10 + 1, g), 0, 0)
def X1_takes_j113 (a0 : Nat) (x2 : Int32) (x3 : Int32) (x4 : Int32) (x5 : Int32) (a6 : Nat) (x7 : Int32) (x8 : Int32) (x9 : Int32) (x10 : Int32) (x11 : Int32) (g : GS) : Option (((Int32 × Int32 × Int32 × Int32 × GS) ⊕ (Int32 × Int32 × Int32 × GS)) × Nat × Nat) :=
  if x10 = 0 then
  X1_takes_j137 a0 x2 x3 x4 x5 a6 x7 (x8 + x11) x10 x11 g
else
  X1_takes_j137 a0 x2 x3 x4 x5 a6 x7 (x8 + x11) x10 (jmin_ x9 x11) g
def X1_takes_b77 (a0 : Nat) (x2 : Int32) (x3 : Int32) (x4 : Int32) (x5 : Int32) (a6 : Nat) (x7 : Int32) (x8 : Int32) (x9 : Int32) (x10 : Int32) (g : GS) : Option (((Int32 × Int32 × Int32 × Int32 × GS) ⊕ (Int32 × Int32 × Int32 × GS)) × Nat × Nat) :=
  if x2 ≤ x10 then
  some (.inr (x7, x8, x9, g), 0, 0)
else
  wk_ g a0 1 <|
    cb_ (X1_draw a0 x3 g) fun r33 g32 =>
    wk_ g32 a6 10 <|
    cb_ (X11_run a6 (pI g32 a6 4 r33)) fun r37 g36 =>
    wk_ g36 r37 10 <|
    ob_ (X11_sharp r37 g36) fun r40 =>
    if r40 < x4 then
    X1_takes_j113 a0 x2 x3 x4 x5 a6 x7 x8 x9 x10 r40 g36
  else
    X1_takes_j113 a0 x2 x3 x4 x5 a6 (x7 + 1) x8 x9 x10 r40 g36
def X1_takes_j43 (a0 : Nat) (x1 : Int32) (x2 : Int32) (x3 : Int32) (x4 : Int32) (x5 : Int32) (t0 : Int32) (g : GS) : Option (((Int32 ⊕ (Nat × Nat)) × GS) × Nat × Nat) :=
  tc_ (X1_right t0 g) (fun e13 g12 => some ((.inr e13, g12), 0, 0)) fun r11 g12 =>
  wk_ g12 a0 1 <|
  al_ (pI g12 a0 15 x1) 10 8 fun u17 g18 =>
  wk_ g18 a0 1 <|
  nn_ (gR g18 a0 1) fun b22 =>
  ca_ (X11_init u17 a0 b22 g18) fun r26 g25 =>
  oa_ (la_ (fun a => X1_takes_b77 a0 x2 x3 x4 x5 u17 a.1 a.2.1 a.2.2.1 a.2.2.2.1 a.2.2.2.2) fu_ (0, 0, 0, 0, g25)) fun e43 =>
  if x5 = 0 then
  some ((.inl e43.1, e43.2.2.2), 0, 0)
else
  if x5 = 1 then
    some ((.inl e43.2.1, e43.2.2.2), 0, 0)
  else
    some ((.inl e43.2.2.1, e43.2.2.2), 0, 0)
def X1_takes_j42 (a0 : Nat) (x1 : Int32) (x2 : Int32) (x3 : Int32) (x4 : Int32) (x5 : Int32) (g : GS) : Option (((Int32 ⊕ (Nat × Nat)) × GS) × Nat × Nat) :=
  X1_takes_j43 a0 x1 x2 x3 x4 x5 0 g
/-- RingHand.takes(IIIII)I -/
def X1_takes (a0 : Nat) (x1 : Int32) (x2 : Int32) (x3 : Int32) (x4 : Int32) (x5 : Int32) (g : GS) : Option (((Int32 ⊕ (Nat × Nat)) × GS) × Nat × Nat) :=
  tc_ (X1_oneOf x5 2 g) (fun e4 g3 => some ((.inr e4, g3), 0, 0)) fun r2 g3 =>
  ob_ (X1_in x2 0 40) fun r8 =>
  if r8 = 0 then
  X1_takes_j42 a0 x1 x2 x3 x4 x5 g3
else
  ob_ (X1_in x3 1 30) fun r49 =>
    if r49 = 0 then
    X1_takes_j42 a0 x1 x2 x3 x4 x5 g3
  else
    ob_ (X1_in x4 0 601) fun r52 =>
      if r52 = 0 then
      X1_takes_j42 a0 x1 x2 x3 x4 x5 g3
    else
      X1_takes_j43 a0 x1 x2 x3 x4 x5 1 g3
def X1_see_j47 (a0 : Nat) (t0 : Nat) (t1 : Nat) (t2 : Nat) (t3 : Int32) (t4 : Int32) (g : GS) : Option (((Int32 ⊕ (Nat × Nat)) × GS) × Nat × Nat) :=
  wk_ g t2 100 <|
  in_ t3 (gN g t2) <|
  wk_ (pI g t2 t3.toNatClampNeg t4) t0 12 <|
  ca_ (J2_add t0 t1 (pI g t2 t3.toNatClampNeg t4)) fun r29 g28 =>
  wk_ g28 a0 1 <|
  nn_ (gR g28 a0 8) fun b33 =>
  wk_ g28 b33 12 <|
  ob_ (J2_size b33 g28) fun r37 =>
  some ((.inl r37, g28), 0, 0)
/-- RingHand.see(IZ)I -/
def X1_see (a0 : Nat) (x1 : Int32) (x2 : Int32) (g : GS) : Option (((Int32 ⊕ (Nat × Nat)) × GS) × Nat × Nat) :=
  wk_ g a0 1 <|
  tc_ (X1_aTenth a0 x1 g) (fun e5 g4 => some ((.inr e5, g4), 0, 0)) fun r3 g4 =>
  wk_ g4 a0 1 <|
  nn_ (gR g4 a0 8) fun b9 =>
  wk_ g4 b9 12 <|
  ob_ (J2_size b9 g4) fun r13 =>
  if r13 = 8 then
  cb_ (X1_refuse a0 2 g4) fun r40 g39 =>
    some ((.inl r40, g39), 0, 0)
else
  nn_ (gR g4 a0 8) fun b15 =>
    na_ 2 <|
    al_ g4 100 ((2 : Int32).toNatClampNeg) fun u17 g18 =>
    in_ 0 (gN g18 u17) <|
    if x2 = 0 then
    X1_see_j47 a0 b15 u17 u17 1 0 (pI g18 u17 (0 : Int32).toNatClampNeg x1)
  else
    X1_see_j47 a0 b15 u17 u17 1 1 (pI g18 u17 (0 : Int32).toNatClampNeg x1)
def X1_fits_j103 (a0 : Nat) (x1 : Int32) (a2 : Nat) (x3 : Int32) (x4 : Int32) (x5 : Int32) (g : GS) : Option (((Int32 × Int32 × GS) ⊕ (Int32 × Int32 × GS)) × Nat × Nat) :=
  wk_ g a2 10 <|
  some (.inl (x3, x4, pI g a2 4 ((gI g a2 4) + 1)), 0, 0)
def X1_fits_j100 (a0 : Nat) (x1 : Int32) (a2 : Nat) (x3 : Int32) (x4 : Int32) (x5 : Int32) (g : GS) : Option (((Int32 × Int32 × GS) ⊕ (Int32 × Int32 × GS)) × Nat × Nat) :=
  X1_fits_j103 a0 x1 a2 (x3 + 1) x4 x5 g
def X1_fits_b51 (a0 : Nat) (x1 : Int32) (a2 : Nat) (x5 : Int32) (x3 : Int32) (x4 : Int32) (g : GS) : Option (((Int32 × Int32 × GS) ⊕ (Int32 × Int32 × GS)) × Nat × Nat) :=
  wk_ g a2 10 <|
  if 20 < (gI g a2 4) then
  some (.inr (x3, x4, g), 0, 0)
else
  nn_ (gR g a2 0) fun b38 =>
    wk_ g b38 3 <|
    cb_ (X11_run a2 (pI g b38 4 x5)) fun r43 g42 =>
    wk_ g42 r43 10 <|
    ob_ (X11_isAsSeen r43 g42) fun r46 =>
    if r46 = 0 then
    X1_fits_j103 a0 x1 a2 x3 x4 x5 g42
  else
    if x3 = 0 then
      wk_ g42 a2 10 <|
        X1_fits_j100 a0 x1 a2 x3 ((100 * (x5 + 1)) + (gI g42 a2 4)) x5 g42
    else
      X1_fits_j100 a0 x1 a2 x3 x4 x5 g42
def X1_fits_b29 (a0 : Nat) (x1 : Int32) (a2 : Nat) (x3 : Int32) (x4 : Int32) (x5 : Int32) (g : GS) : Option (((Int32 × Int32 × Int32 × GS) ⊕ (Int32 × Int32 × GS)) × Nat × Nat) :=
  wk_ g a0 1 <|
  nn_ (gR g a0 0) fun b26 =>
  wk_ g b26 2 <|
  nn_ (gR g b26 2) fun b29 =>
  wk_ g b29 12 <|
  ob_ (J2_size b29 g) fun r33 =>
  if r33 ≤ x5 then
  some (.inr (x3, x4, g), 0, 0)
else
  wk_ g a2 10 <|
    oa_ (la_ (fun a => X1_fits_b51 a0 x1 a2 x5 a.1 a.2.1 a.2.2) fu_ (x3, x4, pI g a2 4 0)) fun e51 =>
    some (.inl (e51.1, e51.2.1, x5 + 1, e51.2.2), 0, 0)
/-- RingHand.fits(I)I -/
def X1_fits (a0 : Nat) (x1 : Int32) (g : GS) : Option (((Int32 ⊕ (Nat × Nat)) × GS) × Nat × Nat) :=
  tc_ (X1_oneOf x1 1 g) (fun e4 g3 => some ((.inr e4, g3), 0, 0)) fun r2 g3 =>
  al_ g3 10 8 fun u7 g8 =>
  wk_ g8 a0 1 <|
  nn_ (gR g8 a0 1) fun b12 =>
  wk_ g8 b12 3 <|
  ca_ (X3_copy b12 g8) fun r17 g16 =>
  ca_ (X11_init u7 a0 r17 g16) fun r22 g21 =>
  oa_ (la_ (fun a => X1_fits_b29 a0 x1 u7 a.1 a.2.1 a.2.2.1 a.2.2.2) fu_ (0, (-1), (-1), g21)) fun e54 =>
  if x1 = 0 then
  some ((.inl e54.1, e54.2.2), 0, 0)
else
  some ((.inl e54.2.1, e54.2.2), 0, 0)
def X1_next_j48 (a0 : Nat) (x1 : Int32) (x2 : Int32) (x3 : Int32) (x4 : Int32) (g : GS) : Option (((Int32 × Int32 × GS) ⊕ (Int32 × GS)) × Nat × Nat) :=
  some (.inl (x3, x4 + 1, g), 0, 0)
def X1_next_b10 (a0 : Nat) (x1 : Int32) (x2 : Int32) (x3 : Int32) (x4 : Int32) (g : GS) : Option (((Int32 × Int32 × GS) ⊕ (Int32 × GS)) × Nat × Nat) :=
  wk_ g a0 1 <|
  nn_ (gR g a0 9) fun b8 =>
  wk_ g b8 12 <|
  ob_ (J2_size b8 g) fun r12 =>
  if r12 ≤ x4 then
  some (.inr (x3, g), 0, 0)
else
  nn_ (gR g a0 9) fun b14 =>
    wk_ g b14 12 <|
    ob_ (J2_get b14 x4 g) fun r18 =>
    rk_ g r18 14 <|
    ob_ (J19_intValue r18 g) fun r21 =>
    if x1 < r21 then
    X1_next_j48 a0 x1 x2 x3 x4 g
  else
    X1_next_j48 a0 x1 x2 (x3 + 1) x4 g
/-- RingHand.next(II)I -/
def X1_next (a0 : Nat) (x1 : Int32) (x2 : Int32) (g : GS) : Option (((Int32 ⊕ (Nat × Nat)) × GS) × Nat × Nat) :=
  tc_ (X1_oneOf x2 1 g) (fun e4 g3 => some ((.inr e4, g3), 0, 0)) fun r2 g3 =>
  oa_ (la_ (fun a => X1_next_b10 a0 x1 x2 a.1 a.2.1 a.2.2) fu_ (0, 0, g3)) fun e23 =>
  wk_ e23.2 a0 1 <|
  nn_ (gR e23.2 a0 9) fun b27 =>
  wk_ e23.2 b27 12 <|
  ob_ (J2_size b27 e23.2) fun r31 =>
  ob_ (X1_part e23.1 r31 x2) fun r33 =>
  some ((.inl r33, e23.2), 0, 0)
def X1_middle_b17 (a0 : Nat) (x1 : Int32) (x2 : Int32) (x3 : Int32) (x4 : Int32) (x5 : Int32) (g : GS) : Option (((Int32 × Int32 × Int32 × Int32 × GS) ⊕ (Int32 × Int32 × Int32 × GS)) × Nat × Nat) :=
  wk_ g a0 1 <|
  nn_ (gR g a0 9) fun b8 =>
  wk_ g b8 12 <|
  ob_ (J2_size b8 g) fun r12 =>
  if r12 ≤ x5 then
  some (.inr (x2, x3, x4, g), 0, 0)
else
  nn_ (gR g a0 9) fun b14 =>
    wk_ g b14 12 <|
    ob_ (J2_get b14 x5 g) fun r18 =>
    rk_ g r18 14 <|
    ob_ (J19_intValue r18 g) fun r21 =>
    nn_ (gR g a0 9) fun b22 =>
    wk_ g b22 12 <|
    ob_ (J2_get b22 x5 g) fun r26 =>
    rk_ g r26 14 <|
    ob_ (J19_intValue r26 g) fun r29 =>
    nn_ (gR g a0 9) fun b30 =>
    wk_ g b30 12 <|
    ob_ (J2_get b30 x5 g) fun r34 =>
    rk_ g r34 14 <|
    ob_ (J19_intValue r34 g) fun r37 =>
    some (.inl (x2 + r21, jmax_ x3 r29, jmin_ x4 r37, x5 + 1, g), 0, 0)
/-- RingHand.middle(I)I -/
def X1_middle (a0 : Nat) (x1 : Int32) (g : GS) : Option (((Int32 ⊕ (Nat × Nat)) × GS) × Nat × Nat) :=
  tc_ (X1_oneOf x1 2 g) (fun e4 g3 => some ((.inr e4, g3), 0, 0)) fun r2 g3 =>
  oa_ (la_ (fun a => X1_middle_b17 a0 x1 a.1 a.2.1 a.2.2.1 a.2.2.2.1 a.2.2.2.2) fu_ (0, 0, 480, 0, g3)) fun e38 =>
  if 2 ≤ x1 then
  wk_ e38.2.2.2 a0 1 <|
    nn_ (gR e38.2.2.2 a0 9) fun b43 =>
    wk_ e38.2.2.2 b43 12 <|
    ob_ (J2_isEmpty b43 e38.2.2.2) fun r47 =>
    if r47 = 0 then
    some ((.inl (e38.2.1 - e38.2.2.1), e38.2.2.2), 0, 0)
  else
    some ((.inl 0, e38.2.2.2), 0, 0)
else
  wk_ e38.2.2.2 a0 1 <|
    nn_ (gR e38.2.2.2 a0 9) fun b50 =>
    wk_ e38.2.2.2 b50 12 <|
    ob_ (J2_size b50 e38.2.2.2) fun r54 =>
    ob_ (X1_part e38.1 r54 x1) fun r56 =>
    some ((.inl r56, e38.2.2.2), 0, 0)
end
section
/-! PURE, printed out of the bytecode by wip/D-98610w/gen/comp.py -/
set_option maxRecDepth 100000

/-- RingHand$Reader.want(ZI)V -/
def X5_want (a0 : Nat) (x1 : Int32) (x2 : Int32) (g : GS) : Option (((Unit ⊕ (Nat × Nat)) × GS) × Nat × Nat) :=
  if x1 = 0 then
  al_ g 5 7 fun u2 g3 =>
    ob_ (X6_init u2 x2 g3) fun g7 =>
    wk_ g7 u2 5 <|
    some ((.inr (3, u2), g7), 0, 0)
else
  some ((.inl (), g), 0, 0)
def X5_numberNow_j53 (a0 : Nat) (t0 : Nat) (t1 : Int32) (g : GS) : Option (((Int32 ⊕ (Nat × Nat)) × GS) × Nat × Nat) :=
  wk_ g t0 4 <|
  tc_ (X5_want t0 t1 2 g) (fun e16 g15 => some ((.inr e16, g15), 0, 0)) fun r14 g15 =>
  wk_ g15 a0 4 <|
  some ((.inl (gI g15 a0 12), g15), 0, 0)
def X5_numberNow_j52 (a0 : Nat) (t0 : Nat) (g : GS) : Option (((Int32 ⊕ (Nat × Nat)) × GS) × Nat × Nat) :=
  X5_numberNow_j53 a0 t0 0 g
def X5_numberNow_j14 (a0 : Nat) (x1 : Int32) (x2 : Int32) (t0 : Nat) (t1 : Int32) (g : GS) : Option (((Int32 ⊕ (Nat × Nat)) × GS) × Nat × Nat) :=
  wk_ g t0 4 <|
  tc_ (X5_want t0 t1 1 g) (fun e7 g6 => some ((.inr e7, g6), 0, 0)) fun r5 g6 =>
  wk_ g6 a0 4 <|
  if 4 < ((gI g6 a0 11) - (gI g6 a0 10)) then
  X5_numberNow_j52 a0 a0 g6
else
  if (gI g6 a0 12) < x1 then
    X5_numberNow_j52 a0 a0 g6
  else
    if x2 < (gI g6 a0 12) then
      X5_numberNow_j52 a0 a0 g6
    else
      X5_numberNow_j53 a0 a0 1 g6
/-- RingHand$Reader.numberNow(II)I -/
def X5_numberNow (a0 : Nat) (x1 : Int32) (x2 : Int32) (g : GS) : Option (((Int32 ⊕ (Nat × Nat)) × GS) × Nat × Nat) :=
  wk_ g a0 4 <|
  if (gI g a0 9) = 2 then
  X5_numberNow_j14 a0 x1 x2 a0 1 g
else
  X5_numberNow_j14 a0 x1 x2 a0 0 g
/-- RingHand$Reader.number(II)I -/
def X5_number (a0 : Nat) (x1 : Int32) (x2 : Int32) (g : GS) : Option (((Int32 ⊕ (Nat × Nat)) × GS) × Nat × Nat) :=
  wk_ g a0 4 <|
  tc_ (X5_numberNow a0 x1 x2 g) (fun e5 g4 => some ((.inr e5, g4), 0, 0)) fun r3 g4 =>
  wk_ g4 a0 4 <|
  ob_ (X5_next a0 g4) fun g10 =>
  some ((.inl r3, g10), 0, 0)
def X5_part_j100 (rec : Nat → Int32 → GS → Option (((Nat ⊕ (Nat × Nat)) × GS) × Nat × Nat)) (a0 : Nat) (x2 : Int32) (t0 : Nat) (t1 : Int32) (g : GS) : Option (((Nat ⊕ (Nat × Nat)) × GS) × Nat × Nat) :=
  wk_ g t0 4 <|
  tc_ (X5_want t0 t1 3 g) (fun e24 g23 => some ((.inr e24, g23), 0, 0)) fun r22 g23 =>
  wk_ g23 a0 4 <|
  ob_ (X5_next a0 g23) fun g29 =>
  al_ g29 8 1 fun u30 g31 =>
  ob_ (X9_init u30 x2 g31) fun g35 =>
  some ((.inl u30, g35), 0, 0)
def X5_part_j76 (rec : Nat → Int32 → GS → Option (((Nat ⊕ (Nat × Nat)) × GS) × Nat × Nat)) (a0 : Nat) (t0 : Nat) (t1 : Int32) (g : GS) : Option (((Nat ⊕ (Nat × Nat)) × GS) × Nat × Nat) :=
  wk_ g t0 4 <|
  tc_ (X5_want t0 t1 1 g) (fun e11 g10 => some ((.inr e11, g10), 0, 0)) fun r9 g10 =>
  wk_ g10 a0 4 <|
  nn_ (gR g10 a0 7) fun b15 =>
  ob_ (X5_which a0 b15 g10) fun r18 =>
  if r18 = (-1) then
  X5_part_j100 rec a0 r18 a0 0 g10
else
  X5_part_j100 rec a0 r18 a0 1 g10
/-- RingHand$Reader.part(I)LRingHand$Form; -/
def X5_part (rec : Nat → Int32 → GS → Option (((Nat ⊕ (Nat × Nat)) × GS) × Nat × Nat)) (a0 : Nat) (x1 : Int32) (g : GS) : Option (((Nat ⊕ (Nat × Nat)) × GS) × Nat × Nat) :=
  wk_ g a0 4 <|
  if (gI g a0 9) = 2 then
  al_ g 7 1 fun u57 g58 =>
    wk_ g58 a0 4 <|
    tc_ (X5_number a0 0 9999 g58) (fun e65 g64 => some ((.inr e65, g64), 0, 0)) fun r63 g64 =>
    ob_ (X8_init u57 r63 g64) fun g69 =>
    some ((.inl u57, g69), 0, 0)
else
  ob_ (X5_isSign a0 40 g) fun r4 =>
    if r4 = 0 then
    if (gI g a0 9) = 1 then
      X5_part_j76 rec a0 a0 1 g
    else
      X5_part_j76 rec a0 a0 0 g
  else
    ob_ (X5_next a0 g) fun g37 =>
      wk_ g37 a0 4 <|
      tc_ (rec a0 (x1 + 1) g37) (fun e42 g41 => some ((.inr e42, g41), 0, 0)) fun r40 g41 =>
      wk_ g41 a0 4 <|
      ob_ (X5_isSign a0 41 g41) fun r47 =>
      tc_ (X5_want a0 r47 1 g41) (fun e51 g50 => some ((.inr e51, g50), 0, 0)) fun r49 g50 =>
      wk_ g50 a0 4 <|
      ob_ (X5_next a0 g50) fun g56 =>
      some ((.inl r40, g56), 0, 0)
def X5_product_j31 (rec : Nat → Int32 → GS → Option (((Nat ⊕ (Nat × Nat)) × GS) × Nat × Nat)) (a0 : Nat) (x1 : Int32) (a2 : Nat) (g : GS) : Option (((GS) ⊕ (((GS) ⊕ ((Nat × Nat) × GS)))) × Nat × Nat) :=
  wk_ g a0 4 <|
  cb_ (X5_sign a0 g) fun r24 g23 =>
  wk_ g23 a0 4 <|
  tc_ (X5_part rec a0 x1 g23) (fun e29 g28 => some (.inr (.inr (e29, g28)), 0, 0)) fun r27 g28 =>
  wk_ g28 a2 6 <|
  ca_ (X7_add a2 r24 r27 g28) fun r35 g34 =>
  some (.inl g34, 0, 0)
def X5_product_b13 (rec : Nat → Int32 → GS → Option (((Nat ⊕ (Nat × Nat)) × GS) × Nat × Nat)) (a0 : Nat) (x1 : Int32) (a2 : Nat) (g : GS) : Option (((GS) ⊕ (((GS) ⊕ ((Nat × Nat) × GS)))) × Nat × Nat) :=
  wk_ g a0 4 <|
  ob_ (X5_isSign a0 42 g) fun r19 =>
  if r19 = 0 then
  ob_ (X5_isSign a0 47 g) fun r39 =>
    if r39 = 0 then
    some (.inr (.inl g), 0, 0)
  else
    X5_product_j31 rec a0 x1 a2 g
else
  X5_product_j31 rec a0 x1 a2 g
/-- RingHand$Reader.product(I)LRingHand$Form; -/
def X5_product (rec : Nat → Int32 → GS → Option (((Nat ⊕ (Nat × Nat)) × GS) × Nat × Nat)) (a0 : Nat) (x1 : Int32) (g : GS) : Option (((Nat ⊕ (Nat × Nat)) × GS) × Nat × Nat) :=
  al_ g 6 2 fun u1 g2 =>
  wk_ g2 a0 4 <|
  tc_ (X5_part rec a0 x1 g2) (fun e9 g8 => some ((.inr e9, g8), 0, 0)) fun r7 g8 =>
  ca_ (X7_init u1 r7 g8) fun r14 g13 =>
  oa_ (la_ (fun a => X5_product_b13 rec a0 x1 u1 a) fu_ g13) fun e41 =>
  Sum.elim (fun e41a => wk_ e41a u1 6 <|
  ob_ (X7_plain u1 e41a) fun r46 =>
  some ((.inl r46, e41a), 0, 0)) (fun e41b => some ((.inr e41b.1, e41b.2), 0, 0)) e41
def X5_sum_j31 (rec : Nat → Int32 → GS → Option (((Nat ⊕ (Nat × Nat)) × GS) × Nat × Nat)) (a0 : Nat) (x1 : Int32) (a2 : Nat) (g : GS) : Option (((GS) ⊕ (((GS) ⊕ ((Nat × Nat) × GS)))) × Nat × Nat) :=
  wk_ g a0 4 <|
  cb_ (X5_sign a0 g) fun r24 g23 =>
  wk_ g23 a0 4 <|
  tc_ (X5_product rec a0 x1 g23) (fun e29 g28 => some (.inr (.inr (e29, g28)), 0, 0)) fun r27 g28 =>
  wk_ g28 a2 6 <|
  ca_ (X7_add a2 r24 r27 g28) fun r35 g34 =>
  some (.inl g34, 0, 0)
def X5_sum_b13 (rec : Nat → Int32 → GS → Option (((Nat ⊕ (Nat × Nat)) × GS) × Nat × Nat)) (a0 : Nat) (x1 : Int32) (a2 : Nat) (g : GS) : Option (((GS) ⊕ (((GS) ⊕ ((Nat × Nat) × GS)))) × Nat × Nat) :=
  wk_ g a0 4 <|
  ob_ (X5_isSign a0 43 g) fun r19 =>
  if r19 = 0 then
  ob_ (X5_isSign a0 45 g) fun r39 =>
    if r39 = 0 then
    some (.inr (.inl g), 0, 0)
  else
    X5_sum_j31 rec a0 x1 a2 g
else
  X5_sum_j31 rec a0 x1 a2 g
/-- RingHand$Reader.sum(I)LRingHand$Form; -/
def X5_sum (rec : Nat → Int32 → GS → Option (((Nat ⊕ (Nat × Nat)) × GS) × Nat × Nat)) (a0 : Nat) (x1 : Int32) (g : GS) : Option (((Nat ⊕ (Nat × Nat)) × GS) × Nat × Nat) :=
  al_ g 6 2 fun u1 g2 =>
  wk_ g2 a0 4 <|
  tc_ (X5_product rec a0 x1 g2) (fun e9 g8 => some ((.inr e9, g8), 0, 0)) fun r7 g8 =>
  ca_ (X7_init u1 r7 g8) fun r14 g13 =>
  oa_ (la_ (fun a => X5_sum_b13 rec a0 x1 u1 a) fu_ g13) fun e41 =>
  Sum.elim (fun e41a => wk_ e41a u1 6 <|
  ob_ (X7_plain u1 e41a) fun r46 =>
  some ((.inl r46, e41a), 0, 0)) (fun e41b => some ((.inr e41b.1, e41b.2), 0, 0)) e41
def X5_not_j23 (rec : Nat → Int32 → GS → Option (((Nat ⊕ (Nat × Nat)) × GS) × Nat × Nat)) (a0 : Nat) (x1 : Int32) (x2 : Int32) (t0 : Nat) (t1 : Int32) (g : GS) : Option (((Int32 × GS) ⊕ (((Int32 × GS) ⊕ ((Nat × Nat) × GS)))) × Nat × Nat) :=
  wk_ g t0 4 <|
  tc_ (X5_want t0 t1 2 g) (fun e10 g9 => some (.inr (.inr (e10, g9)), 0, 0)) fun r8 g9 =>
  wk_ g9 a0 4 <|
  ob_ (X5_next a0 g9) fun g15 =>
  some (.inl (x2 + 1, g15), 0, 0)
def X5_not_b2 (rec : Nat → Int32 → GS → Option (((Nat ⊕ (Nat × Nat)) × GS) × Nat × Nat)) (a0 : Nat) (x1 : Int32) (x2 : Int32) (g : GS) : Option (((Int32 × GS) ⊕ (((Int32 × GS) ⊕ ((Nat × Nat) × GS)))) × Nat × Nat) :=
  wk_ g a0 4 <|
  ob_ (X5_is a0 (gS g 24) g) fun r3 =>
  if r3 = 0 then
  some (.inr (.inl (x2, g)), 0, 0)
else
  if 6 ≤ x2 then
    X5_not_j23 rec a0 x1 x2 a0 0 g
  else
    X5_not_j23 rec a0 x1 x2 a0 1 g
def X5_not_b94 (rec : Nat → Int32 → GS → Option (((Nat ⊕ (Nat × Nat)) × GS) × Nat × Nat)) (x2 : Int32) (a4 : Nat) (x5 : Int32) (g : GS) : Option (((Nat × Int32 × GS) ⊕ (Nat × GS)) × Nat × Nat) :=
  if x2 ≤ x5 then
  some (.inr (a4, g), 0, 0)
else
  al_ g 9 1 fun u60 g61 =>
    ob_ (X10_init u60 a4 g61) fun g65 =>
    some (.inl (u60, x5 + 1, g65), 0, 0)
def X5_not_j85 (rec : Nat → Int32 → GS → Option (((Nat ⊕ (Nat × Nat)) × GS) × Nat × Nat)) (x2 : Int32) (a3 : Nat) (g : GS) : Option (((Nat ⊕ (Nat × Nat)) × GS) × Nat × Nat) :=
  wk_ g a3 6 <|
  ob_ (X7_plain a3 g) fun r58 =>
  oa_ (la_ (fun a => X5_not_b94 rec x2 a.1 a.2.1 a.2.2) fu_ (r58, 0, g)) fun e66 =>
  some ((.inl e66.1, e66.2), 0, 0)
def X5_not_j68 (rec : Nat → Int32 → GS → Option (((Nat ⊕ (Nat × Nat)) × GS) × Nat × Nat)) (a0 : Nat) (x1 : Int32) (x2 : Int32) (a3 : Nat) (g : GS) : Option (((Nat ⊕ (Nat × Nat)) × GS) × Nat × Nat) :=
  wk_ g a0 4 <|
  cb_ (X5_sign a0 g) fun r42 g41 =>
  wk_ g41 a0 4 <|
  tc_ (X5_sum rec a0 x1 g41) (fun e47 g46 => some ((.inr e47, g46), 0, 0)) fun r45 g46 =>
  wk_ g46 a3 6 <|
  ca_ (X7_add a3 r42 r45 g46) fun r53 g52 =>
  X5_not_j85 rec x2 a3 g52
/-- RingHand$Reader.not(I)LRingHand$Form; -/
def X5_not (rec : Nat → Int32 → GS → Option (((Nat ⊕ (Nat × Nat)) × GS) × Nat × Nat)) (a0 : Nat) (x1 : Int32) (g : GS) : Option (((Nat ⊕ (Nat × Nat)) × GS) × Nat × Nat) :=
  oa_ (la_ (fun a => X5_not_b2 rec a0 x1 a.1 a.2) fu_ (0, g)) fun e16 =>
  Sum.elim (fun e16a => al_ e16a.2 6 2 fun u19 g20 =>
  wk_ g20 a0 4 <|
  tc_ (X5_sum rec a0 x1 g20) (fun e27 g26 => some ((.inr e27, g26), 0, 0)) fun r25 g26 =>
  ca_ (X7_init u19 r25 g26) fun r32 g31 =>
  wk_ g31 a0 4 <|
  ob_ (X5_isSign a0 60 g31) fun r37 =>
  if r37 = 0 then
  ob_ (X5_isSign a0 61 g31) fun r70 =>
    if r70 = 0 then
    X5_not_j85 rec e16a.1 u19 g31
  else
    X5_not_j68 rec a0 x1 e16a.1 u19 g31
else
  X5_not_j68 rec a0 x1 e16a.1 u19 g31) (fun e16b => some ((.inr e16b.1, e16b.2), 0, 0)) e16
def X5_and_b13 (rec : Nat → Int32 → GS → Option (((Nat ⊕ (Nat × Nat)) × GS) × Nat × Nat)) (a0 : Nat) (x1 : Int32) (a2 : Nat) (g : GS) : Option (((GS) ⊕ (((GS) ⊕ ((Nat × Nat) × GS)))) × Nat × Nat) :=
  wk_ g a0 4 <|
  cb_ (X5_passes a0 (gS g 25) g) fun r20 g19 =>
  if r20 = 0 then
  some (.inr (.inl g19), 0, 0)
else
  wk_ g19 a0 4 <|
    tc_ (X5_not rec a0 x1 g19) (fun e26 g25 => some (.inr (.inr (e26, g25)), 0, 0)) fun r24 g25 =>
    wk_ g25 a2 6 <|
    ca_ (X7_add a2 38 r24 g25) fun r32 g31 =>
    some (.inl g31, 0, 0)
/-- RingHand$Reader.and(I)LRingHand$Form; -/
def X5_and (rec : Nat → Int32 → GS → Option (((Nat ⊕ (Nat × Nat)) × GS) × Nat × Nat)) (a0 : Nat) (x1 : Int32) (g : GS) : Option (((Nat ⊕ (Nat × Nat)) × GS) × Nat × Nat) :=
  al_ g 6 2 fun u1 g2 =>
  wk_ g2 a0 4 <|
  tc_ (X5_not rec a0 x1 g2) (fun e9 g8 => some ((.inr e9, g8), 0, 0)) fun r7 g8 =>
  ca_ (X7_init u1 r7 g8) fun r14 g13 =>
  oa_ (la_ (fun a => X5_and_b13 rec a0 x1 u1 a) fu_ g13) fun e35 =>
  Sum.elim (fun e35a => wk_ e35a u1 6 <|
  ob_ (X7_plain u1 e35a) fun r40 =>
  some ((.inl r40, e35a), 0, 0)) (fun e35b => some ((.inr e35b.1, e35b.2), 0, 0)) e35
def X5_expression_b64 (rec : Nat → Int32 → GS → Option (((Nat ⊕ (Nat × Nat)) × GS) × Nat × Nat)) (a0 : Nat) (x1 : Int32) (a2 : Nat) (g : GS) : Option (((GS) ⊕ (((GS) ⊕ ((Nat × Nat) × GS)))) × Nat × Nat) :=
  wk_ g a0 4 <|
  cb_ (X5_passes a0 (gS g 26) g) fun r37 g36 =>
  if r37 = 0 then
  some (.inr (.inl g36), 0, 0)
else
  wk_ g36 a0 4 <|
    tc_ (X5_and rec a0 x1 g36) (fun e43 g42 => some (.inr (.inr (e43, g42)), 0, 0)) fun r41 g42 =>
    wk_ g42 a2 6 <|
    ca_ (X7_add a2 124 r41 g42) fun r49 g48 =>
    some (.inl g48, 0, 0)
def X5_expression_j47 (rec : Nat → Int32 → GS → Option (((Nat ⊕ (Nat × Nat)) × GS) × Nat × Nat)) (a0 : Nat) (x1 : Int32) (t0 : Nat) (t1 : Int32) (g : GS) : Option (((Nat ⊕ (Nat × Nat)) × GS) × Nat × Nat) :=
  wk_ g t0 4 <|
  tc_ (X5_want t0 t1 2 g) (fun e15 g14 => some ((.inr e15, g14), 0, 0)) fun r13 g14 =>
  al_ g14 6 2 fun u18 g19 =>
  wk_ g19 a0 4 <|
  tc_ (X5_and rec a0 x1 g19) (fun e26 g25 => some ((.inr e26, g25), 0, 0)) fun r24 g25 =>
  ca_ (X7_init u18 r24 g25) fun r31 g30 =>
  oa_ (la_ (fun a => X5_expression_b64 rec a0 x1 u18 a) fu_ g30) fun e52 =>
  Sum.elim (fun e52a => wk_ e52a u18 6 <|
  ob_ (X7_plain u18 e52a) fun r57 =>
  some ((.inl r57, e52a), 0, 0)) (fun e52b => some ((.inr e52b.1, e52b.2), 0, 0)) e52
def X5_expression_j31 (rec : Nat → Int32 → GS → Option (((Nat ⊕ (Nat × Nat)) × GS) × Nat × Nat)) (a0 : Nat) (x1 : Int32) (t0 : Nat) (t1 : Int32) (g : GS) : Option (((Nat ⊕ (Nat × Nat)) × GS) × Nat × Nat) :=
  wk_ g t0 4 <|
  tc_ (X5_want t0 t1 1 g) (fun e7 g6 => some ((.inr e7, g6), 0, 0)) fun r5 g6 =>
  if 6 ≤ x1 then
  X5_expression_j47 rec a0 x1 a0 0 g6
else
  X5_expression_j47 rec a0 x1 a0 1 g6
def X5_expression_j26 (rec : Nat → Int32 → GS → Option (((Nat ⊕ (Nat × Nat)) × GS) × Nat × Nat)) (a0 : Nat) (x1 : Int32) (t0 : Nat) (g : GS) : Option (((Nat ⊕ (Nat × Nat)) × GS) × Nat × Nat) :=
  X5_expression_j31 rec a0 x1 t0 1 g
/-- RingHand$Reader.expression(I)LRingHand$Form; -/
def X5_expression_b (rec : Nat → Int32 → GS → Option (((Nat ⊕ (Nat × Nat)) × GS) × Nat × Nat)) (a0 : Nat) (x1 : Int32) (g : GS) : Option (((Nat ⊕ (Nat × Nat)) × GS) × Nat × Nat) :=
  wk_ g a0 4 <|
  if (gI g a0 9) = 2 then
  X5_expression_j26 rec a0 x1 a0 g
else
  if (gI g a0 9) = 1 then
    X5_expression_j26 rec a0 x1 a0 g
  else
    ob_ (X5_isSign a0 40 g) fun r60 =>
      if r60 = 0 then
      X5_expression_j31 rec a0 x1 a0 0 g
    else
      X5_expression_j26 rec a0 x1 a0 g
def X5_expression_r : Nat → Nat → Int32 → GS → Option (((Nat ⊕ (Nat × Nat)) × GS) × Nat × Nat)
  | 0, _, _, _ => none
  | n + 1, a0, x1, g => X5_expression_b (X5_expression_r n) a0 x1 g
def X5_expression (a0 : Nat) (x1 : Int32) (g : GS) : Option (((Nat ⊕ (Nat × Nat)) × GS) × Nat × Nat) := X5_expression_r 9 a0 x1 g
/-- RingHand$Reader.rule([Ljava/lang/String;)LRingHand$Form; -/
def X5_rule (a0 : Nat) (a1 : Nat) (g : GS) : Option (((Nat ⊕ (Nat × Nat)) × GS) × Nat × Nat) :=
  wk_ g a0 4 <|
  tc_ (X5_expression a0 0 (pR g a0 7 (a1 + 1))) (fun e5 g4 => some ((.inr e5, g4), 0, 0)) fun r3 g4 =>
  some ((.inl r3, g4), 0, 0)
def X5_move_j54 (a0 : Nat) (t0 : Int32) (g : GS) : Option (((Unit ⊕ (Nat × Nat)) × GS) × Nat × Nat) :=
  wk_ g a0 4 <|
  nn_ (gR g a0 1) fun b30 =>
  nn_ (gR g a0 1) fun b32 =>
  wk_ g b32 2 <|
  tc_ (X5_number a0 1 (jmin_ 99 (600 - (gI g b32 6))) g) (fun e38 g37 => some ((.inr e38, g37), 0, 0)) fun r36 g37 =>
  wk_ g37 b30 2 <|
  ca_ (X2_go b30 t0 r36 g37) fun r44 g43 =>
  some ((.inl (), g43), 0, 0)
def X5_move_j23 (a0 : Nat) (x1 : Int32) (t0 : Nat) (t1 : Int32) (g : GS) : Option (((Unit ⊕ (Nat × Nat)) × GS) × Nat × Nat) :=
  wk_ g t0 4 <|
  tc_ (X5_want t0 t1 2 g) (fun e15 g14 => some ((.inr e15, g14), 0, 0)) fun r13 g14 =>
  wk_ g14 a0 4 <|
  ob_ (X5_next a0 g14) fun g20 =>
  if x1 = 0 then
  wk_ g20 a0 4 <|
    tc_ (X5_number a0 12 480 g20) (fun e26 g25 => some ((.inr e26, g25), 0, 0)) fun r24 g25 =>
    X5_move_j54 a0 r24 g25
else
  wk_ g20 a0 4 <|
    nn_ (gR g20 a0 1) fun b48 =>
    wk_ g20 b48 2 <|
    ob_ (X2_end b48 g20) fun r52 =>
    X5_move_j54 a0 r52 g20
/-- RingHand$Reader.move(Z)V -/
def X5_move (a0 : Nat) (x1 : Int32) (g : GS) : Option (((Unit ⊕ (Nat × Nat)) × GS) × Nat × Nat) :=
  wk_ g a0 4 <|
  nn_ (gR g a0 1) fun b2 =>
  wk_ g b2 2 <|
  nn_ (gR g b2 0) fun b5 =>
  wk_ g b5 12 <|
  ob_ (J2_size b5 g) fun r9 =>
  if 12 ≤ r9 then
  X5_move_j23 a0 x1 a0 0 g
else
  X5_move_j23 a0 x1 a0 1 g
def X5_change_j76 (x1 : Int32) (t0 : Nat) (t1 : Nat) (t2 : Nat) (t3 : Int32) (t4 : Nat) (t5 : Int32) (g : GS) : Option (((Unit ⊕ (Nat × Nat)) × GS) × Nat × Nat) :=
  wk_ g t4 4 <|
  tc_ (X5_number t4 t5 600 g) (fun e48 g47 => some ((.inr e48, g47), 0, 0)) fun r46 g47 =>
  wk_ g47 t2 100 <|
  in_ t3 (gN g47 t2) <|
  wk_ (pI g47 t2 t3.toNatClampNeg r46) t1 100 <|
  in_ 1 (gN (pI g47 t2 t3.toNatClampNeg r46) t1) <|
  wk_ (pI (pI g47 t2 t3.toNatClampNeg r46) t1 (1 : Int32).toNatClampNeg x1) t0 12 <|
  ca_ (J2_add t0 t1 (pI (pI g47 t2 t3.toNatClampNeg r46) t1 (1 : Int32).toNatClampNeg x1)) fun r58 g57 =>
  some ((.inl (), g57), 0, 0)
def X5_change_j25 (a0 : Nat) (x1 : Int32) (x2 : Int32) (t0 : Nat) (t1 : Int32) (g : GS) : Option (((Unit ⊕ (Nat × Nat)) × GS) × Nat × Nat) :=
  wk_ g t0 4 <|
  tc_ (X5_want t0 t1 2 g) (fun e15 g14 => some ((.inr e15, g14), 0, 0)) fun r13 g14 =>
  wk_ g14 a0 4 <|
  ob_ (X5_next a0 g14) fun g20 =>
  wk_ g20 a0 4 <|
  nn_ (gR g20 a0 1) fun b22 =>
  wk_ g20 b22 2 <|
  nn_ (gR g20 b22 1) fun b25 =>
  na_ 2 <|
  al_ g20 100 ((2 : Int32).toNatClampNeg) fun u27 g28 =>
  if x2 = 0 then
  X5_change_j76 x1 b25 u27 u27 0 a0 1 g28
else
  wk_ g28 a0 4 <|
    nn_ (gR g28 a0 1) fun b34 =>
    wk_ g28 b34 2 <|
    nn_ (gR g28 b34 1) fun b37 =>
    wk_ g28 b37 12 <|
    ob_ (J2_get b37 (x2 - 1) g28) fun r41 =>
    rk_ g28 r41 100 <|
    in_ 0 (gN g28 r41) <|
    X5_change_j76 x1 b25 u27 u27 0 a0 ((gI g28 r41 (0 : Int32).toNatClampNeg) + 1) g28
/-- RingHand$Reader.change(I)V -/
def X5_change (a0 : Nat) (x1 : Int32) (g : GS) : Option (((Unit ⊕ (Nat × Nat)) × GS) × Nat × Nat) :=
  wk_ g a0 4 <|
  nn_ (gR g a0 1) fun b2 =>
  wk_ g b2 2 <|
  nn_ (gR g b2 1) fun b5 =>
  wk_ g b5 12 <|
  ob_ (J2_size b5 g) fun r9 =>
  if 6 ≤ r9 then
  X5_change_j25 a0 x1 r9 a0 0 g
else
  X5_change_j25 a0 x1 r9 a0 1 g
def X5_mark_j66 (a0 : Nat) (x1 : Int32) (t0 : Nat) (t1 : Int32) (g : GS) : Option (((Unit ⊕ (Nat × Nat)) × GS) × Nat × Nat) :=
  wk_ g t0 4 <|
  tc_ (X5_want t0 t1 4 g) (fun e47 g46 => some ((.inr e47, g46), 0, 0)) fun r45 g46 =>
  wk_ g46 a0 4 <|
  ob_ (X5_next a0 g46) fun g52 =>
  wk_ g52 a0 4 <|
  nn_ (gR g52 a0 2) fun b54 =>
  wk_ g52 b54 3 <|
  nn_ (gR g52 b54 6) fun b57 =>
  ca_ (J19_valueOf x1 g52) fun r61 g60 =>
  wk_ g60 b57 12 <|
  ca_ (J2_add b57 r61 g60) fun r67 g66 =>
  some ((.inl (), g66), 0, 0)
def X5_mark_j23 (a0 : Nat) (t0 : Nat) (t1 : Int32) (g : GS) : Option (((Unit ⊕ (Nat × Nat)) × GS) × Nat × Nat) :=
  wk_ g t0 4 <|
  tc_ (X5_want t0 t1 2 g) (fun e15 g14 => some ((.inr e15, g14), 0, 0)) fun r13 g14 =>
  wk_ g14 a0 4 <|
  ob_ (X5_next a0 g14) fun g20 =>
  wk_ g20 a0 4 <|
  tc_ (X5_numberNow a0 12 480 g20) (fun e25 g24 => some ((.inr e25, g24), 0, 0)) fun r23 g24 =>
  wk_ g24 a0 4 <|
  nn_ (gR g24 a0 2) fun b29 =>
  wk_ g24 b29 3 <|
  nn_ (gR g24 b29 6) fun b32 =>
  ca_ (J19_valueOf r23 g24) fun r36 g35 =>
  wk_ g35 b32 12 <|
  ob_ (J2_contains b32 r36 g35) fun r41 =>
  if r41 = 0 then
  X5_mark_j66 a0 r23 a0 1 g35
else
  X5_mark_j66 a0 r23 a0 0 g35
/-- RingHand$Reader.mark()V -/
def X5_mark (a0 : Nat) (g : GS) : Option (((Unit ⊕ (Nat × Nat)) × GS) × Nat × Nat) :=
  wk_ g a0 4 <|
  nn_ (gR g a0 2) fun b2 =>
  wk_ g b2 3 <|
  nn_ (gR g b2 6) fun b5 =>
  wk_ g b5 12 <|
  ob_ (J2_size b5 g) fun r9 =>
  if 6 ≤ r9 then
  X5_mark_j23 a0 a0 0 g
else
  X5_mark_j23 a0 a0 1 g
def X5_eye_j37 (t0 : Nat) (t1 : Int32) (g : GS) : Option (((Unit ⊕ (Nat × Nat)) × GS) × Nat × Nat) :=
  wk_ g t0 3 <|
  some ((.inl (), pI g t0 3 t1), 0, 0)
def X5_eye_j15 (a0 : Nat) (x1 : Int32) (g : GS) : Option (((Unit ⊕ (Nat × Nat)) × GS) × Nat × Nat) :=
  wk_ g a0 4 <|
  tc_ (X5_number a0 0 30 g) (fun e9 g8 => some ((.inr e9, g8), 0, 0)) fun r7 g8 =>
  wk_ g8 a0 4 <|
  nn_ (gR g8 a0 2) fun b13 =>
  if x1 = 0 then
  X5_eye_j37 b13 r7 g8
else
  X5_eye_j37 b13 (-r7) g8
/-- RingHand$Reader.eye()V -/
def X5_eye (a0 : Nat) (g : GS) : Option (((Unit ⊕ (Nat × Nat)) × GS) × Nat × Nat) :=
  wk_ g a0 4 <|
  ob_ (X5_isSign a0 45 g) fun r3 =>
  if r3 = 0 then
  X5_eye_j15 a0 r3 g
else
  ob_ (X5_next a0 g) fun g18 =>
    X5_eye_j15 a0 r3 g18
def X5_only_j17 (a0 : Nat) (x1 : Int32) (t0 : Nat) (t1 : Int32) (g : GS) : Option (((Unit ⊕ (Nat × Nat)) × GS) × Nat × Nat) :=
  wk_ g t0 4 <|
  tc_ (X5_want t0 t1 5 g) (fun e7 g6 => some ((.inr e7, g6), 0, 0)) fun r5 g6 =>
  wk_ g6 a0 4 <|
  ob_ (X5_next a0 (pI g6 a0 13 ((gI g6 a0 13) ||| (1 <<< (x1 &&& 31))))) fun g12 =>
  if x1 = 0 then
  wk_ g12 a0 4 <|
    nn_ (gR g12 a0 2) fun b15 =>
    tc_ (X5_number a0 0 200 g12) (fun e20 g19 => some ((.inr e20, g19), 0, 0)) fun r18 g19 =>
    wk_ g19 b15 3 <|
    some ((.inl (), pI g19 b15 5 r18), 0, 0)
else
  if x1 = 1 then
    wk_ g12 a0 4 <|
      nn_ (gR g12 a0 2) fun b26 =>
      tc_ (X5_number a0 1 60 g12) (fun e31 g30 => some ((.inr e31, g30), 0, 0)) fun r29 g30 =>
      wk_ g30 b26 3 <|
      some ((.inl (), pI g30 b26 0 r29), 0, 0)
  else
    if x1 = 2 then
      wk_ g12 a0 4 <|
        nn_ (gR g12 a0 2) fun b37 =>
        tc_ (X5_number a0 0 24 g12) (fun e42 g41 => some ((.inr e42, g41), 0, 0)) fun r40 g41 =>
        wk_ g41 b37 3 <|
        some ((.inl (), pI g41 b37 1 r40), 0, 0)
    else
      if x1 = 3 then
        wk_ g12 a0 4 <|
          nn_ (gR g12 a0 2) fun b48 =>
          tc_ (X5_number a0 1 90 g12) (fun e53 g52 => some ((.inr e53, g52), 0, 0)) fun r51 g52 =>
          wk_ g52 b48 3 <|
          some ((.inl (), pI g52 b48 2 r51), 0, 0)
      else
        if x1 = 4 then
          wk_ g12 a0 4 <|
            tc_ (X5_eye a0 g12) (fun e62 g61 => some ((.inr e62, g61), 0, 0)) fun r60 g61 =>
            some ((.inl (), g61), 0, 0)
        else
          if x1 = 5 then
            wk_ g12 a0 4 <|
              nn_ (gR g12 a0 1) fun b67 =>
              nn_ (gR g12 a0 4) fun b69 =>
              tc_ (X5_rule a0 b69 g12) (fun e74 g73 => some ((.inr e74, g73), 0, 0)) fun r72 g73 =>
              wk_ g73 b67 2 <|
              some ((.inl (), pR g73 b67 3 (r72 + 1)), 0, 0)
          else
            wk_ g12 a0 4 <|
              nn_ (gR g12 a0 1) fun b79 =>
              nn_ (gR g12 a0 5) fun b81 =>
              tc_ (X5_rule a0 b81 g12) (fun e86 g85 => some ((.inr e86, g85), 0, 0)) fun r84 g85 =>
              wk_ g85 b79 2 <|
              some ((.inl (), pR g85 b79 4 (r84 + 1)), 0, 0)
/-- RingHand$Reader.only(I)V -/
def X5_only (a0 : Nat) (x1 : Int32) (g : GS) : Option (((Unit ⊕ (Nat × Nat)) × GS) × Nat × Nat) :=
  wk_ g a0 4 <|
  if (((gI g a0 13) >>> (x1 &&& 31)) &&& 1) = 0 then
  X5_only_j17 a0 x1 a0 1 g
else
  X5_only_j17 a0 x1 a0 0 g
def X5_line_j173 (a0 : Nat) (g : GS) : Option (((Unit ⊕ (Nat × Nat)) × GS) × Nat × Nat) :=
  wk_ g a0 4 <|
  ob_ (X5_isSign a0 59 g) fun r72 =>
  tc_ (X5_want a0 r72 1 g) (fun e76 g75 => some ((.inr e76, g75), 0, 0)) fun r74 g75 =>
  wk_ g75 a0 4 <|
  ob_ (X5_next a0 g75) fun g81 =>
  some ((.inl (), g81), 0, 0)
def X5_line_j144 (a0 : Nat) (t0 : Nat) (t1 : Int32) (g : GS) : Option (((Unit ⊕ (Nat × Nat)) × GS) × Nat × Nat) :=
  wk_ g t0 4 <|
  tc_ (X5_want t0 t1 2 g) (fun e44 g43 => some ((.inr e44, g43), 0, 0)) fun r42 g43 =>
  wk_ g43 a0 4 <|
  ob_ (X5_next a0 g43) fun g49 =>
  wk_ g49 a0 4 <|
  nn_ (gR g49 a0 1) fun b51 =>
  wk_ g49 b51 2 <|
  nn_ (gR g49 b51 2) fun b54 =>
  nn_ (gR g49 a0 6) fun b56 =>
  tc_ (X5_rule a0 b56 g49) (fun e61 g60 => some ((.inr e61, g60), 0, 0)) fun r59 g60 =>
  wk_ g60 b54 12 <|
  ca_ (J2_add b54 r59 g60) fun r67 g66 =>
  X5_line_j173 a0 g66
/-- RingHand$Reader.line()V -/
def X5_line (a0 : Nat) (g : GS) : Option (((Unit ⊕ (Nat × Nat)) × GS) × Nat × Nat) :=
  wk_ g a0 4 <|
  nn_ (gR g a0 3) fun b2 =>
  ob_ (X5_which a0 b2 g) fun r5 =>
  if r5 = (-1) then
  ob_ (X5_is a0 (gS g 27) g) fun r8 =>
    if r8 = 0 then
    ob_ (X5_is a0 (gS g 28) g) fun r11 =>
      if r11 = 0 then
      ob_ (X5_is a0 (gS g 29) g) fun r14 =>
        if r14 = 0 then
        ob_ (X5_is a0 (gS g 30) g) fun r17 =>
          if r17 = 0 then
          ob_ (X5_is a0 (gS g 22) g) fun r20 =>
            if r20 = 0 then
            ob_ (X5_is a0 (gS g 31) g) fun r23 =>
              tc_ (X5_want a0 r23 1 g) (fun e27 g26 => some ((.inr e27, g26), 0, 0)) fun r25 g26 =>
              wk_ g26 a0 4 <|
              nn_ (gR g26 a0 1) fun b31 =>
              wk_ g26 b31 2 <|
              nn_ (gR g26 b31 2) fun b34 =>
              wk_ g26 b34 12 <|
              ob_ (J2_size b34 g26) fun r38 =>
              if 4 ≤ r38 then
              X5_line_j144 a0 a0 0 g26
            else
              X5_line_j144 a0 a0 1 g26
          else
            tc_ (X5_mark a0 g) (fun e85 g84 => some ((.inr e85, g84), 0, 0)) fun r83 g84 =>
              X5_line_j173 a0 g84
        else
          tc_ (X5_change a0 0 g) (fun e91 g90 => some ((.inr e91, g90), 0, 0)) fun r89 g90 =>
            X5_line_j173 a0 g90
      else
        tc_ (X5_change a0 1 g) (fun e97 g96 => some ((.inr e97, g96), 0, 0)) fun r95 g96 =>
          X5_line_j173 a0 g96
    else
      tc_ (X5_move a0 1 g) (fun e103 g102 => some ((.inr e103, g102), 0, 0)) fun r101 g102 =>
        X5_line_j173 a0 g102
  else
    tc_ (X5_move a0 0 g) (fun e109 g108 => some ((.inr e109, g108), 0, 0)) fun r107 g108 =>
      X5_line_j173 a0 g108
else
  tc_ (X5_only a0 r5 g) (fun e115 g114 => some ((.inr e115, g114), 0, 0)) fun r113 g114 =>
    X5_line_j173 a0 g114
def X5_read_b45 (a0 : Nat) (g : GS) : Option (((GS) ⊕ (((GS) ⊕ ((Nat × Nat) × GS)))) × Nat × Nat) :=
  wk_ g a0 4 <|
  if (gI g a0 9) = 0 then
  some (.inr (.inl g), 0, 0)
else
  tc_ (X5_line a0 g) (fun e14 g13 => some (.inr (.inr (e14, g13)), 0, 0)) fun r12 g13 =>
    some (.inl g13, 0, 0)
def X5_read_j83 (a0 : Nat) (t0 : Nat) (t1 : Int32) (g : GS) : Option (((Nat ⊕ (Nat × Nat)) × GS) × Nat × Nat) :=
  wk_ g t0 3 <|
  wk_ (pI g t0 4 t1) a0 4 <|
  nn_ (gR (pI g t0 4 t1) a0 1) fun b34 =>
  some ((.inl b34, pI g t0 4 t1), 0, 0)
def X5_read_j45 (a0 : Nat) (g : GS) : Option (((Nat ⊕ (Nat × Nat)) × GS) × Nat × Nat) :=
  oa_ (la_ (fun a => X5_read_b45 a0 a) fu_ g) fun e17 =>
  Sum.elim (fun e17a => wk_ e17a a0 4 <|
  nn_ (gR e17a a0 2) fun b21 =>
  nn_ (gR e17a a0 1) fun b23 =>
  wk_ e17a b23 2 <|
  nn_ (gR e17a b23 2) fun b26 =>
  wk_ e17a b26 12 <|
  ob_ (J2_isEmpty b26 e17a) fun r30 =>
  if r30 = 0 then
  X5_read_j83 a0 b21 0 e17a
else
  X5_read_j83 a0 b21 (-1) e17a) (fun e17b => some ((.inr e17b.1, e17b.2), 0, 0)) e17
/-- RingHand$Reader.read()LRingHand$Scene; -/
def X5_read (a0 : Nat) (g : GS) : Option (((Nat ⊕ (Nat × Nat)) × GS) × Nat × Nat) :=
  wk_ g a0 4 <|
  ob_ (X5_next a0 g) fun g3 =>
  wk_ g3 a0 4 <|
  cb_ (X5_passes a0 (gS g3 32) g3) fun r7 g6 =>
  if r7 = 0 then
  X5_read_j45 a0 g6
else
  wk_ g6 a0 4 <|
    nn_ (gR g6 a0 1) fun b37 =>
    tc_ (X5_number a0 12 480 g6) (fun e42 g41 => some ((.inr e42, g41), 0, 0)) fun r40 g41 =>
    wk_ g41 b37 2 <|
    wk_ (pI g41 b37 5 r40) a0 4 <|
    ob_ (X5_isSign a0 59 (pI g41 b37 5 r40)) fun r48 =>
    tc_ (X5_want a0 r48 1 (pI g41 b37 5 r40)) (fun e52 g51 => some ((.inr e52, g51), 0, 0)) fun r50 g51 =>
    wk_ g51 a0 4 <|
    ob_ (X5_next a0 g51) fun g57 =>
    X5_read_j45 a0 g57

/-! PURE, printed out of the bytecode by wip/D-98610w/gen/comp.py -/
set_option maxRecDepth 100000

def X1_scene_j17 (a0 : Nat) (x1 : Int32) (t0 : Int32) (g : GS) : Option (((Int32 ⊕ (Nat × Nat)) × GS) × Nat × Nat) :=
  tc_ (X1_right t0 g) (fun e5 g4 => some ((.inr e5, g4), 0, 0)) fun r3 g4 =>
  wk_ g4 a0 1 <|
  al_ (pI (pI g4 a0 4 0) a0 5 (-1)) 4 15 fun u9 g10 =>
  ca_ (X5_init u9 a0 x1 g10) fun r15 g14 =>
  wk_ g14 u9 4 <|
  tc_ (X5_read u9 g14) (fun e22 g21 => gd_ (decide (e22.1 = 3)) <|
  wk_ g21 u9 4 <|
  wk_ g21 a0 1 <|
  nn_ (gR (pI g21 a0 5 (gI g21 u9 10)) a0 6) fun b27 =>
  rk_ (pI g21 a0 5 (gI g21 u9 10)) b27 100 <|
  in_ 0 (gN (pI g21 a0 5 (gI g21 u9 10)) b27) <|
  wk_ (pI g21 a0 5 (gI g21 u9 10)) b27 100 <|
  in_ 0 (gN (pI g21 a0 5 (gI g21 u9 10)) b27) <|
  nm_ (pI (pI g21 a0 5 (gI g21 u9 10)) b27 (0 : Int32).toNatClampNeg ((gI (pI g21 a0 5 (gI g21 u9 10)) b27 (0 : Int32).toNatClampNeg) + 1)) fun g33 =>
  wk_ g33 e22.2 5 <|
  some ((.inl (gI g33 e22.2 6), g33), 0, 0)) fun r20 g21 =>
  wk_ g21 a0 1 <|
  wk_ (pR g21 a0 0 (r20 + 1)) u9 4 <|
  nn_ (gR (pR g21 a0 0 (r20 + 1)) u9 2) fun b41 =>
  al_ (pR (pR g21 a0 0 (r20 + 1)) a0 1 (b41 + 1)) 12 3 fun u43 g44 =>
  ob_ (J2_init u43 g44) fun g48 =>
  wk_ g48 a0 1 <|
  al_ (pR g48 a0 7 (u43 + 1)) 12 3 fun u50 g51 =>
  ob_ (J2_init u50 g51) fun g55 =>
  wk_ g55 a0 1 <|
  al_ (pR g55 a0 8 (u50 + 1)) 12 3 fun u57 g58 =>
  ob_ (J2_init u57 g58) fun g62 =>
  wk_ g62 a0 1 <|
  some ((.inl 0, pR (pR (pR g62 a0 9 (u57 + 1)) a0 10 0) a0 11 0), 0, 0)
def X1_scene_j16 (a0 : Nat) (x1 : Int32) (g : GS) : Option (((Int32 ⊕ (Nat × Nat)) × GS) × Nat × Nat) :=
  X1_scene_j17 a0 x1 0 g
/-- RingHand.scene(I)I -/
def X1_scene (a0 : Nat) (x1 : Int32) (g : GS) : Option (((Int32 ⊕ (Nat × Nat)) × GS) × Nat × Nat) :=
  if x1 < 0 then
  X1_scene_j16 a0 x1 g
else
  wk_ g a0 1 <|
    if (gI g a0 4) < x1 then
    X1_scene_j16 a0 x1 g
  else
    X1_scene_j17 a0 x1 1 g

/-! PURE, printed out of the bytecode by wip/D-98610w/gen/comp.py -/
set_option maxRecDepth 100000

/-- RingHandLaw.all(LRingHand;I[J)I -/
def X0_all (a0 : Nat) (x1 : Int32) (a2 : Nat) (g : GS) : Option ((Int32 × GS) × Nat × Nat) :=
  wk_ g a0 1 <|
  tc_ (X1_all a0 x1 g) (fun e5 g4 => gd_ (decide (e5.1 = 1)) <|
  some ((1, g4), 0, 0)) fun r3 g4 =>
  wk_ g4 a2 106 <|
  in_ 0 (gN g4 a2) <|
  some ((0, pI g4 a2 (0 : Int32).toNatClampNeg r3), 0, 0)
/-- RingHandLaw.best(LRingHand;I[J)I -/
def X0_best (a0 : Nat) (x1 : Int32) (a2 : Nat) (g : GS) : Option ((Int32 × GS) × Nat × Nat) :=
  wk_ g a0 1 <|
  tc_ (X1_best a0 x1 g) (fun e5 g4 => gd_ (decide (e5.1 = 1)) <|
  some ((1, g4), 0, 0)) fun r3 g4 =>
  wk_ g4 a2 106 <|
  in_ 0 (gN g4 a2) <|
  some ((0, pI g4 a2 (0 : Int32).toNatClampNeg r3), 0, 0)
/-- RingHandLaw.chalk(LRingHand;II[J)I -/
def X0_chalk (a0 : Nat) (x1 : Int32) (x2 : Int32) (a3 : Nat) (g : GS) : Option ((Int32 × GS) × Nat × Nat) :=
  wk_ g a0 1 <|
  tc_ (X1_chalk a0 x1 x2 g) (fun e5 g4 => gd_ (decide (e5.1 = 1)) <|
  some ((1, g4), 0, 0)) fun r3 g4 =>
  wk_ g4 a3 106 <|
  in_ 0 (gN g4 a3) <|
  some ((0, pI g4 a3 (0 : Int32).toNatClampNeg r3), 0, 0)
/-- RingHandLaw.count(LRingHand;I[J)I -/
def X0_count (a0 : Nat) (x1 : Int32) (a2 : Nat) (g : GS) : Option ((Int32 × GS) × Nat × Nat) :=
  wk_ g a0 1 <|
  tc_ (X1_count a0 x1 g) (fun e5 g4 => gd_ (decide (e5.1 = 1)) <|
  some ((1, g4), 0, 0)) fun r3 g4 =>
  wk_ g4 a2 106 <|
  in_ 0 (gN g4 a2) <|
  some ((0, pI g4 a2 (0 : Int32).toNatClampNeg r3), 0, 0)
/-- RingHandLaw.depth(LRingHand;II[J)I -/
def X0_depth (a0 : Nat) (x1 : Int32) (x2 : Int32) (a3 : Nat) (g : GS) : Option ((Int32 × GS) × Nat × Nat) :=
  wk_ g a0 1 <|
  tc_ (X1_depth a0 x1 x2 g) (fun e5 g4 => if e5.1 = 1 then some ((1, g4), 0, 0) else gd_ (decide (e5.1 = 2)) <|
  some ((2, g4), 0, 0)) fun r3 g4 =>
  wk_ g4 a3 106 <|
  in_ 0 (gN g4 a3) <|
  some ((0, pI g4 a3 (0 : Int32).toNatClampNeg r3), 0, 0)
/-- RingHandLaw.fits(LRingHand;I[J)I -/
def X0_fits (a0 : Nat) (x1 : Int32) (a2 : Nat) (g : GS) : Option ((Int32 × GS) × Nat × Nat) :=
  wk_ g a0 1 <|
  tc_ (X1_fits a0 x1 g) (fun e5 g4 => gd_ (decide (e5.1 = 1)) <|
  some ((1, g4), 0, 0)) fun r3 g4 =>
  wk_ g4 a2 106 <|
  in_ 0 (gN g4 a2) <|
  some ((0, pI g4 a2 (0 : Int32).toNatClampNeg r3), 0, 0)
/-- RingHandLaw.foretell(LRingHand;I[J)I -/
def X0_foretell (a0 : Nat) (x1 : Int32) (a2 : Nat) (g : GS) : Option ((Int32 × GS) × Nat × Nat) :=
  wk_ g a0 1 <|
  tc_ (X1_foretell a0 x1 g) (fun e5 g4 => gd_ (decide (e5.1 = 1)) <|
  some ((1, g4), 0, 0)) fun r3 g4 =>
  wk_ g4 a2 106 <|
  in_ 0 (gN g4 a2) <|
  some ((0, pI g4 a2 (0 : Int32).toNatClampNeg r3), 0, 0)
/-- RingHandLaw.holes(LRingHand;I[J)I -/
def X0_holes (a0 : Nat) (x1 : Int32) (a2 : Nat) (g : GS) : Option ((Int32 × GS) × Nat × Nat) :=
  wk_ g a0 1 <|
  tc_ (X1_holes a0 x1 g) (fun e5 g4 => gd_ (decide (e5.1 = 2)) <|
  some ((1, g4), 0, 0)) fun r3 g4 =>
  wk_ g4 a2 106 <|
  in_ 0 (gN g4 a2) <|
  some ((0, pI g4 a2 (0 : Int32).toNatClampNeg r3), 0, 0)
/-- RingHandLaw.inches(LRingHand;II[J)I -/
def X0_inches (a0 : Nat) (x1 : Int32) (x2 : Int32) (a3 : Nat) (g : GS) : Option ((Int32 × GS) × Nat × Nat) :=
  wk_ g a0 1 <|
  tc_ (X1_inches a0 x1 x2 g) (fun e5 g4 => gd_ (decide (e5.1 = 1)) <|
  some ((1, g4), 0, 0)) fun r3 g4 =>
  wk_ g4 a3 106 <|
  in_ 0 (gN g4 a3) <|
  some ((0, pI g4 a3 (0 : Int32).toNatClampNeg r3), 0, 0)
/-- RingHandLaw.kept(LRingHand;I[J)I -/
def X0_kept (a0 : Nat) (x1 : Int32) (a2 : Nat) (g : GS) : Option ((Int32 × GS) × Nat × Nat) :=
  wk_ g a0 1 <|
  tc_ (X1_kept_2 a0 x1 g) (fun e5 g4 => gd_ (decide (e5.1 = 1)) <|
  some ((1, g4), 0, 0)) fun r3 g4 =>
  wk_ g4 a2 106 <|
  in_ 0 (gN g4 a2) <|
  some ((0, pI g4 a2 (0 : Int32).toNatClampNeg r3), 0, 0)
/-- RingHandLaw.lags(LRingHand;I[J)I -/
def X0_lags (a0 : Nat) (x1 : Int32) (a2 : Nat) (g : GS) : Option ((Int32 × GS) × Nat × Nat) :=
  wk_ g a0 1 <|
  tc_ (X1_lags a0 x1 g) (fun e5 g4 => gd_ (decide (e5.1 = 1)) <|
  some ((1, g4), 0, 0)) fun r3 g4 =>
  wk_ g4 a2 106 <|
  in_ 0 (gN g4 a2) <|
  some ((0, pI g4 a2 (0 : Int32).toNatClampNeg r3), 0, 0)
/-- RingHandLaw.light(LRingHand;II[J)I -/
def X0_light (a0 : Nat) (x1 : Int32) (x2 : Int32) (a3 : Nat) (g : GS) : Option ((Int32 × GS) × Nat × Nat) :=
  wk_ g a0 1 <|
  tc_ (X1_light a0 x1 x2 g) (fun e5 g4 => gd_ (decide (e5.1 = 2)) <|
  some ((1, g4), 0, 0)) fun r3 g4 =>
  wk_ g4 a3 106 <|
  in_ 0 (gN g4 a3) <|
  some ((0, pI g4 a3 (0 : Int32).toNatClampNeg r3), 0, 0)
/-- RingHandLaw.mark(LRingHand;I[J)I -/
def X0_mark (a0 : Nat) (x1 : Int32) (a2 : Nat) (g : GS) : Option ((Int32 × GS) × Nat × Nat) :=
  wk_ g a0 1 <|
  tc_ (X1_mark a0 x1 g) (fun e5 g4 => gd_ (decide (e5.1 = 1)) <|
  some ((1, g4), 0, 0)) fun r3 g4 =>
  wk_ g4 a2 106 <|
  in_ 0 (gN g4 a2) <|
  some ((0, pI g4 a2 (0 : Int32).toNatClampNeg r3), 0, 0)
/-- RingHandLaw.marks(LRingHand;I[J)I -/
def X0_marks (a0 : Nat) (x1 : Int32) (a2 : Nat) (g : GS) : Option ((Int32 × GS) × Nat × Nat) :=
  wk_ g a0 1 <|
  tc_ (X1_marks a0 x1 g) (fun e5 g4 => gd_ (decide (e5.1 = 2)) <|
  some ((1, g4), 0, 0)) fun r3 g4 =>
  wk_ g4 a2 106 <|
  in_ 0 (gN g4 a2) <|
  some ((0, pI g4 a2 (0 : Int32).toNatClampNeg r3), 0, 0)
/-- RingHandLaw.middle(LRingHand;I[J)I -/
def X0_middle (a0 : Nat) (x1 : Int32) (a2 : Nat) (g : GS) : Option ((Int32 × GS) × Nat × Nat) :=
  wk_ g a0 1 <|
  tc_ (X1_middle a0 x1 g) (fun e5 g4 => gd_ (decide (e5.1 = 1)) <|
  some ((1, g4), 0, 0)) fun r3 g4 =>
  wk_ g4 a2 106 <|
  in_ 0 (gN g4 a2) <|
  some ((0, pI g4 a2 (0 : Int32).toNatClampNeg r3), 0, 0)
/-- RingHandLaw.next(LRingHand;II[J)I -/
def X0_next (a0 : Nat) (x1 : Int32) (x2 : Int32) (a3 : Nat) (g : GS) : Option ((Int32 × GS) × Nat × Nat) :=
  wk_ g a0 1 <|
  tc_ (X1_next a0 x1 x2 g) (fun e5 g4 => gd_ (decide (e5.1 = 1)) <|
  some ((1, g4), 0, 0)) fun r3 g4 =>
  wk_ g4 a3 106 <|
  in_ 0 (gN g4 a3) <|
  some ((0, pI g4 a3 (0 : Int32).toNatClampNeg r3), 0, 0)
/-- RingHandLaw.quickest(LRingHand;I[J)I -/
def X0_quickest (a0 : Nat) (x1 : Int32) (a2 : Nat) (g : GS) : Option ((Int32 × GS) × Nat × Nat) :=
  wk_ g a0 1 <|
  tc_ (X1_quickest a0 x1 g) (fun e5 g4 => gd_ (decide (e5.1 = 1)) <|
  some ((1, g4), 0, 0)) fun r3 g4 =>
  wk_ g4 a2 106 <|
  in_ 0 (gN g4 a2) <|
  some ((0, pI g4 a2 (0 : Int32).toNatClampNeg r3), 0, 0)
/-- RingHandLaw.runs(LRingHand;II[J)I -/
def X0_runs (a0 : Nat) (x1 : Int32) (x2 : Int32) (a3 : Nat) (g : GS) : Option ((Int32 × GS) × Nat × Nat) :=
  wk_ g a0 1 <|
  tc_ (X1_runs a0 x1 x2 g) (fun e5 g4 => gd_ (decide (e5.1 = 1)) <|
  some ((1, g4), 0, 0)) fun r3 g4 =>
  wk_ g4 a3 106 <|
  in_ 0 (gN g4 a3) <|
  some ((0, pI g4 a3 (0 : Int32).toNatClampNeg r3), 0, 0)
/-- RingHandLaw.see(LRingHand;IZ[J)I -/
def X0_see (a0 : Nat) (x1 : Int32) (x2 : Int32) (a3 : Nat) (g : GS) : Option ((Int32 × GS) × Nat × Nat) :=
  wk_ g a0 1 <|
  tc_ (X1_see a0 x1 x2 g) (fun e5 g4 => gd_ (decide (e5.1 = 1)) <|
  some ((1, g4), 0, 0)) fun r3 g4 =>
  wk_ g4 a3 106 <|
  in_ 0 (gN g4 a3) <|
  some ((0, pI g4 a3 (0 : Int32).toNatClampNeg r3), 0, 0)
/-- RingHandLaw.shift(LRingHand;I[J)I -/
def X0_shift (a0 : Nat) (x1 : Int32) (a2 : Nat) (g : GS) : Option ((Int32 × GS) × Nat × Nat) :=
  wk_ g a0 1 <|
  tc_ (X1_shift a0 x1 g) (fun e5 g4 => gd_ (decide (e5.1 = 1)) <|
  some ((1, g4), 0, 0)) fun r3 g4 =>
  wk_ g4 a2 106 <|
  in_ 0 (gN g4 a2) <|
  some ((0, pI g4 a2 (0 : Int32).toNatClampNeg r3), 0, 0)
/-- RingHandLaw.shots(LRingHand;I[J)I -/
def X0_shots (a0 : Nat) (x1 : Int32) (a2 : Nat) (g : GS) : Option ((Int32 × GS) × Nat × Nat) :=
  wk_ g a0 1 <|
  tc_ (X1_shots a0 x1 g) (fun e5 g4 => gd_ (decide (e5.1 = 2)) <|
  some ((1, g4), 0, 0)) fun r3 g4 =>
  wk_ g4 a2 106 <|
  in_ 0 (gN g4 a2) <|
  some ((0, pI g4 a2 (0 : Int32).toNatClampNeg r3), 0, 0)
/-- RingHandLaw.slip(LRingHand;I[J)I -/
def X0_slip (a0 : Nat) (x1 : Int32) (a2 : Nat) (g : GS) : Option ((Int32 × GS) × Nat × Nat) :=
  wk_ g a0 1 <|
  tc_ (X1_slip a0 x1 g) (fun e5 g4 => gd_ (decide (e5.1 = 1)) <|
  some ((1, g4), 0, 0)) fun r3 g4 =>
  wk_ g4 a2 106 <|
  in_ 0 (gN g4 a2) <|
  some ((0, pI g4 a2 (0 : Int32).toNatClampNeg r3), 0, 0)
/-- RingHandLaw.takes(LRingHand;IIIII[J)I -/
def X0_takes (a0 : Nat) (x1 : Int32) (x2 : Int32) (x3 : Int32) (x4 : Int32) (x5 : Int32) (a6 : Nat) (g : GS) : Option ((Int32 × GS) × Nat × Nat) :=
  wk_ g a0 1 <|
  tc_ (X1_takes a0 x1 x2 x3 x4 x5 g) (fun e5 g4 => if e5.1 = 1 then some ((1, g4), 0, 0) else gd_ (decide (e5.1 = 2)) <|
  some ((2, g4), 0, 0)) fun r3 g4 =>
  wk_ g4 a6 106 <|
  in_ 0 (gN g4 a6) <|
  some ((0, pI g4 a6 (0 : Int32).toNatClampNeg r3), 0, 0)
/-- RingHandLaw.tenth(LRingHand;II[J)I -/
def X0_tenth (a0 : Nat) (x1 : Int32) (x2 : Int32) (a3 : Nat) (g : GS) : Option ((Int32 × GS) × Nat × Nat) :=
  wk_ g a0 1 <|
  tc_ (X1_tenth a0 x1 x2 g) (fun e5 g4 => gd_ (decide (e5.1 = 1)) <|
  some ((1, g4), 0, 0)) fun r3 g4 =>
  wk_ g4 a3 106 <|
  in_ 0 (gN g4 a3) <|
  some ((0, pI g4 a3 (0 : Int32).toNatClampNeg r3), 0, 0)
/-- RingHandLaw.turn(LRingHand;I[J)I -/
def X0_turn (a0 : Nat) (x1 : Int32) (a2 : Nat) (g : GS) : Option ((Int32 × GS) × Nat × Nat) :=
  wk_ g a0 1 <|
  tc_ (X1_turn a0 x1 g) (fun e5 g4 => gd_ (decide (e5.1 = 2)) <|
  some ((1, g4), 0, 0)) fun r3 g4 =>
  wk_ g4 a2 106 <|
  in_ 0 (gN g4 a2) <|
  some ((0, pI g4 a2 (0 : Int32).toNatClampNeg r3), 0, 0)

/-! PURE, printed out of the bytecode by wip/D-98610w/gen/comp.py -/
set_option maxRecDepth 100000

/-- RingHandLaw.scene(LRingHand;I[J)I -/
def X0_scene (a0 : Nat) (x1 : Int32) (a2 : Nat) (g : GS) : Option ((Int32 × GS) × Nat × Nat) :=
  wk_ g a0 1 <|
  tc_ (X1_scene a0 x1 g) (fun e5 g4 => gd_ (decide (e5.1 = 2)) <|
  some ((1, g4), 0, 0)) fun r3 g4 =>
  wk_ g4 a2 106 <|
  in_ 0 (gN g4 a2) <|
  some ((0, pI g4 a2 (0 : Int32).toNatClampNeg r3), 0, 0)

/-! PURE, printed out of the bytecode by wip/D-98610w/gen/comp.py -/
set_option maxRecDepth 100000

/-- RingHandModel.<init>()V -/
def X4_init (a0 : Nat) (g : GS) : Option ((Unit × GS) × Nat × Nat) :=
  wk_ g a0 15 <|
  na_ 12 <|
  al_ (pI (pI (pI g a0 1 120) a0 6 (-1)) a0 7 (-1)) 100 ((12 : Int32).toNatClampNeg) fun u2 g3 =>
  wk_ g3 a0 15 <|
  na_ 12 <|
  al_ (pR g3 a0 8 (u2 + 1)) 100 ((12 : Int32).toNatClampNeg) fun u8 g9 =>
  wk_ g9 a0 15 <|
  na_ 6 <|
  al_ (pR g9 a0 9 (u8 + 1)) 100 ((6 : Int32).toNatClampNeg) fun u14 g15 =>
  wk_ g15 a0 15 <|
  na_ 6 <|
  al_ (pR g15 a0 10 (u14 + 1)) 100 ((6 : Int32).toNatClampNeg) fun u20 g21 =>
  wk_ g21 a0 15 <|
  na_ 4 <|
  al_ (pR g21 a0 11 (u20 + 1)) 100 ((4 : Int32).toNatClampNeg) fun u26 g27 =>
  wk_ g27 a0 15 <|
  na_ 4200 <|
  al_ (pR g27 a0 12 (u26 + 1)) 100 ((4200 : Int32).toNatClampNeg) fun u32 g33 =>
  wk_ g33 a0 15 <|
  na_ 700 <|
  al_ (pR g33 a0 13 (u32 + 1)) 100 ((700 : Int32).toNatClampNeg) fun u38 g39 =>
  wk_ g39 a0 15 <|
  na_ 3 <|
  al_ (pI (pR g39 a0 14 (u38 + 1)) a0 17 (-1)) 100 ((3 : Int32).toNatClampNeg) fun u44 g45 =>
  wk_ g45 a0 15 <|
  na_ 12 <|
  al_ (pR g45 a0 18 (u44 + 1)) 100 ((12 : Int32).toNatClampNeg) fun u50 g51 =>
  wk_ g51 a0 15 <|
  na_ 12 <|
  al_ (pR g51 a0 43 (u50 + 1)) 100 ((12 : Int32).toNatClampNeg) fun u56 g57 =>
  wk_ g57 a0 15 <|
  na_ 6 <|
  al_ (pR g57 a0 44 (u56 + 1)) 100 ((6 : Int32).toNatClampNeg) fun u62 g63 =>
  wk_ g63 a0 15 <|
  na_ 6 <|
  al_ (pR g63 a0 45 (u62 + 1)) 100 ((6 : Int32).toNatClampNeg) fun u68 g69 =>
  wk_ g69 a0 15 <|
  na_ 6 <|
  al_ (pR g69 a0 46 (u68 + 1)) 100 ((6 : Int32).toNatClampNeg) fun u74 g75 =>
  wk_ g75 a0 15 <|
  na_ 6 <|
  al_ (pR g75 a0 47 (u74 + 1)) 100 ((6 : Int32).toNatClampNeg) fun u80 g81 =>
  wk_ g81 a0 15 <|
  na_ 4 <|
  al_ (pR g81 a0 48 (u80 + 1)) 100 ((4 : Int32).toNatClampNeg) fun u86 g87 =>
  wk_ g87 a0 15 <|
  na_ 4200 <|
  al_ (pR g87 a0 49 (u86 + 1)) 100 ((4200 : Int32).toNatClampNeg) fun u92 g93 =>
  wk_ g93 a0 15 <|
  na_ 950 <|
  al_ (pR g93 a0 50 (u92 + 1)) 100 ((950 : Int32).toNatClampNeg) fun u98 g99 =>
  wk_ g99 a0 15 <|
  na_ 9 <|
  al_ (pR g99 a0 51 (u98 + 1)) 102 ((9 : Int32).toNatClampNeg) fun u104 g105 =>
  wk_ g105 a0 15 <|
  na_ 12 <|
  al_ (pR g105 a0 52 (u104 + 1)) 100 ((12 : Int32).toNatClampNeg) fun u110 g111 =>
  in_ 0 (gN g111 u110) <|
  in_ 1 (gN (pI g111 u110 (0 : Int32).toNatClampNeg 3) u110) <|
  in_ 2 (gN (pI (pI g111 u110 (0 : Int32).toNatClampNeg 3) u110 (1 : Int32).toNatClampNeg 2) u110) <|
  nm_ (pI (pI (pI g111 u110 (0 : Int32).toNatClampNeg 3) u110 (1 : Int32).toNatClampNeg 2) u110 (2 : Int32).toNatClampNeg 20) fun g118 =>
  in_ 3 (gN g118 u110) <|
  in_ 4 (gN (pI g118 u110 (3 : Int32).toNatClampNeg 0) u110) <|
  in_ 5 (gN (pI (pI g118 u110 (3 : Int32).toNatClampNeg 0) u110 (4 : Int32).toNatClampNeg 0) u110) <|
  nm_ (pI (pI (pI g118 u110 (3 : Int32).toNatClampNeg 0) u110 (4 : Int32).toNatClampNeg 0) u110 (5 : Int32).toNatClampNeg (-1)) fun g124 =>
  in_ 6 (gN g124 u110) <|
  in_ 7 (gN (pI g124 u110 (6 : Int32).toNatClampNeg 0) u110) <|
  in_ 8 (gN (pI (pI g124 u110 (6 : Int32).toNatClampNeg 0) u110 (7 : Int32).toNatClampNeg 0) u110) <|
  nm_ (pI (pI (pI g124 u110 (6 : Int32).toNatClampNeg 0) u110 (7 : Int32).toNatClampNeg 0) u110 (8 : Int32).toNatClampNeg 0) fun g130 =>
  in_ 9 (gN g130 u110) <|
  in_ 10 (gN (pI g130 u110 (9 : Int32).toNatClampNeg 0) u110) <|
  in_ 11 (gN (pI (pI g130 u110 (9 : Int32).toNatClampNeg 0) u110 (10 : Int32).toNatClampNeg 0) u110) <|
  nm_ (pI (pI (pI g130 u110 (9 : Int32).toNatClampNeg 0) u110 (10 : Int32).toNatClampNeg 0) u110 (11 : Int32).toNatClampNeg 0) fun g136 =>
  wk_ g136 a0 15 <|
  na_ 12 <|
  al_ (pR g136 a0 53 (u110 + 1)) 100 ((12 : Int32).toNatClampNeg) fun u140 g141 =>
  wk_ g141 a0 15 <|
  na_ 80 <|
  al_ (pR g141 a0 54 (u140 + 1)) 100 ((80 : Int32).toNatClampNeg) fun u146 g147 =>
  wk_ g147 a0 15 <|
  na_ 8 <|
  al_ (pR g147 a0 55 (u146 + 1)) 100 ((8 : Int32).toNatClampNeg) fun u152 g153 =>
  wk_ g153 a0 15 <|
  na_ 950 <|
  al_ (pR g153 a0 57 (u152 + 1)) 100 ((950 : Int32).toNatClampNeg) fun u158 g159 =>
  wk_ g159 a0 15 <|
  na_ 601 <|
  al_ (pR g159 a0 58 (u158 + 1)) 100 ((601 : Int32).toNatClampNeg) fun u164 g165 =>
  wk_ g165 a0 15 <|
  na_ 601 <|
  al_ (pR g165 a0 61 (u164 + 1)) 100 ((601 : Int32).toNatClampNeg) fun u170 g171 =>
  wk_ g171 a0 15 <|
  na_ 601 <|
  al_ (pR g171 a0 62 (u170 + 1)) 100 ((601 : Int32).toNatClampNeg) fun u176 g177 =>
  wk_ g177 a0 15 <|
  na_ 3 <|
  al_ (pI (pR g177 a0 63 (u176 + 1)) a0 68 (-1)) 100 ((3 : Int32).toNatClampNeg) fun u182 g183 =>
  wk_ g183 a0 15 <|
  na_ 13 <|
  al_ (pR g183 a0 70 (u182 + 1)) 100 ((13 : Int32).toNatClampNeg) fun u188 g189 =>
  wk_ g189 a0 15 <|
  na_ 3 <|
  al_ (pR g189 a0 71 (u188 + 1)) 100 ((3 : Int32).toNatClampNeg) fun u194 g195 =>
  wk_ g195 a0 15 <|
  na_ 16 <|
  al_ (pR g195 a0 72 (u194 + 1)) 100 ((16 : Int32).toNatClampNeg) fun u200 g201 =>
  wk_ g201 a0 15 <|
  na_ 16 <|
  al_ (pR g201 a0 75 (u200 + 1)) 100 ((16 : Int32).toNatClampNeg) fun u206 g207 =>
  wk_ g207 a0 15 <|
  na_ 12 <|
  al_ (pR g207 a0 77 (u206 + 1)) 100 ((12 : Int32).toNatClampNeg) fun u212 g213 =>
  wk_ g213 a0 15 <|
  na_ 80 <|
  al_ (pR g213 a0 82 (u212 + 1)) 100 ((80 : Int32).toNatClampNeg) fun u218 g219 =>
  wk_ g219 a0 15 <|
  na_ 16 <|
  al_ (pR g219 a0 83 (u218 + 1)) 100 ((16 : Int32).toNatClampNeg) fun u224 g225 =>
  wk_ g225 a0 15 <|
  na_ 16 <|
  al_ (pR g225 a0 84 (u224 + 1)) 100 ((16 : Int32).toNatClampNeg) fun u230 g231 =>
  wk_ g231 a0 15 <|
  some (((), pR g231 a0 85 (u230 + 1)), 0, 0)
end
section
/-! LAWS: words for reading and writing the pure states, loops (own work) -/
set_option maxRecDepth 100000
theorem rI_sI {σ : MS} {k i : Nat} {v : Int32} : m_I (s_I σ k v) i = if i = k then v else m_I σ i := rfl
theorem rI_sL {σ : MS} {i : Nat} {v : Int64} : m_I (s_L σ v) i = m_I σ i := rfl
theorem rI_sA {σ : MS} {j k i : Nat} {v : Int32} : m_I (s_A σ j k v) i = m_I σ i := rfl
theorem rL_sI {σ : MS} {k : Nat} {v : Int32} : m_L (s_I σ k v) = m_L σ := rfl
theorem rL_sL {σ : MS} {v : Int64} : m_L (s_L σ v) = v := rfl
theorem rL_sA {σ : MS} {j k : Nat} {v : Int32} : m_L (s_A σ j k v) = m_L σ := rfl
theorem rA_sI {σ : MS} {k a i : Nat} {v : Int32} : m_A (s_I σ k v) a i = m_A σ a i := rfl
theorem rA_sL {σ : MS} {a i : Nat} {v : Int64} : m_A (s_L σ v) a i = m_A σ a i := rfl
theorem rA_sA {σ : MS} {j k a i : Nat} {v : Int32} : m_A (s_A σ j k v) a i = if a = j ∧ i = k then v else m_A σ a i := by
  unfold m_A s_A upd
  by_cases h1 : a = j
  · subst h1
    by_cases h2 : i = k
    · simp [h2]
    · simp [h2]
  · simp [h1]
theorem K_pI {g : GS} {a k : Nat} {v : Int32} : gK (pI g a k v) = gK g := rfl
theorem N_pI {g : GS} {a k : Nat} {v : Int32} : gN (pI g a k v) = gN g := rfl
theorem R_pI {g : GS} {a k : Nat} {v : Int32} : gR (pI g a k v) = gR g := rfl
theorem z_pI {g : GS} {a k : Nat} {v : Int32} : gz (pI g a k v) = gz g := rfl
theorem S_pI {g : GS} {a k : Nat} {v : Int32} : gS (pI g a k v) = gS g := rfl
theorem I_pI {g : GS} {a k b i : Nat} {v : Int32} : gI (pI g a k v) b i = if b = a ∧ i = k then v else gI g b i := rfl
theorem K_pR {g : GS} {a k v : Nat} : gK (pR g a k v) = gK g := rfl
theorem N_pR {g : GS} {a k v : Nat} : gN (pR g a k v) = gN g := rfl
theorem I_pR {g : GS} {a k v : Nat} : gI (pR g a k v) = gI g := rfl
theorem z_pR {g : GS} {a k v : Nat} : gz (pR g a k v) = gz g := rfl
theorem S_pR {g : GS} {a k v : Nat} : gS (pR g a k v) = gS g := rfl
theorem R_pR {g : GS} {a k b i v : Nat} : gR (pR g a k v) b i = if b = a ∧ i = k then v else gR g b i := rfl
theorem K_nw {g : GS} {k n b : Nat} : gK (nw_ g k n) b = if b = gz g then k else gK g b := rfl
theorem N_nw {g : GS} {k n b : Nat} : gN (nw_ g k n) b = if b = gz g then n else gN g b := rfl
theorem I_nw {g : GS} {k n b i : Nat} : gI (nw_ g k n) b i = if b = gz g then 0 else gI g b i := by
  show (if b = gz g then (fun _ : Nat => (0 : Int32)) i else gI g b i) = _
  rfl
theorem R_nw {g : GS} {k n b i : Nat} : gR (nw_ g k n) b i = if b = gz g then 0 else gR g b i := rfl
theorem z_nw {g : GS} {k n : Nat} : gz (nw_ g k n) = gz g + 1 := rfl
theorem S_nw {g : GS} {k n : Nat} : gS (nw_ g k n) = gS g := rfl
theorem K_cR {g : GS} {a sp b dp n : Nat} : gK (cR_ g a sp b dp n) = gK g := rfl
theorem N_cR {g : GS} {a sp b dp n : Nat} : gN (cR_ g a sp b dp n) = gN g := rfl
theorem I_cR {g : GS} {a sp b dp n : Nat} : gI (cR_ g a sp b dp n) = gI g := rfl
theorem z_cR {g : GS} {a sp b dp n : Nat} : gz (cR_ g a sp b dp n) = gz g := rfl
theorem S_cR {g : GS} {a sp b dp n : Nat} : gS (cR_ g a sp b dp n) = gS g := rfl
theorem R_cR {g : GS} {a sp b dp n d i : Nat} : gR (cR_ g a sp b dp n) d i = if d = b ∧ dp ≤ i ∧ i < dp + n then gR g a (sp + (i - dp)) else gR g d i := by
  show (if d = b then va_cpy (gR g a) (gR g b) sp dp n i else gR g d i) = _
  unfold va_cpy
  by_cases h : d = b
  · subst h; simp
  · simp [h]
theorem K_cI {g : GS} {a sp b dp n : Nat} : gK (cI_ g a sp b dp n) = gK g := rfl
theorem N_cI {g : GS} {a sp b dp n : Nat} : gN (cI_ g a sp b dp n) = gN g := rfl
theorem R_cI {g : GS} {a sp b dp n : Nat} : gR (cI_ g a sp b dp n) = gR g := rfl
theorem z_cI {g : GS} {a sp b dp n : Nat} : gz (cI_ g a sp b dp n) = gz g := rfl
theorem S_cI {g : GS} {a sp b dp n : Nat} : gS (cI_ g a sp b dp n) = gS g := rfl
theorem I_cI {g : GS} {a sp b dp n d i : Nat} : gI (cI_ g a sp b dp n) d i = if d = b ∧ dp ≤ i ∧ i < dp + n then gI g a (sp + (i - dp)) else gI g d i := by
  show (if d = b then va_cpy (gI g a) (gI g b) sp dp n i else gI g d i) = _
  unfold va_cpy
  by_cases h : d = b
  · subst h; simp
  · simp [h]
theorem K_sk {g : GS} {n : Nat} : gK (sk_ g n) = gK g := rfl
theorem N_sk {g : GS} {n : Nat} : gN (sk_ g n) = gN g := rfl
theorem I_sk {g : GS} {n : Nat} : gI (sk_ g n) = gI g := rfl
theorem R_sk {g : GS} {n : Nat} : gR (sk_ g n) = gR g := rfl
theorem z_sk {g : GS} {n : Nat} : gz (sk_ g n) = gz g + n := rfl
theorem S_sk {g : GS} {n : Nat} : gS (sk_ g n) = gS g := rfl
/-! the printed words, gone through -/
theorem e_wk {β : Type} {g : GS} {a k : Nat} {K : Option β} (h : gK g a = k) : wk_ g a k K = K := if_pos h
theorem e_rk {β : Type} {g : GS} {a k : Nat} {K : Option β} (h : gK g a % 1000 = k) : rk_ g a k K = K := if_pos h
theorem e_nn {β : Type} {b : Nat} {K : Nat → Option β} : nn_ (b + 1) K = K b := rfl
theorem e_nn' {β : Type} {x b : Nat} {K : Nat → Option β} (h : x = b + 1) : nn_ x K = K b := by rw [h]; rfl
theorem e_in {β : Type} {i : Int32} {n : Nat} {K : Option β} (h : ¬ (i < 0 ∨ n ≤ i.toNatClampNeg)) : in_ i n K = K := if_neg h
theorem e_inN {β : Type} {i n : Nat} {K : Option β} (h : i < n) (hn : n < 2 ^ 31) : in_ (nI i) n K = K := if_neg (nI_in h hn)
theorem e_dv {β : Type} {y : Int32} {K : Option β} (h : ¬ y = 0) : dv_ y K = K := if_neg h
theorem e_gd {β : Type} {K : Option β} : gd_ true K = K := rfl
theorem e_ob {α β : Type} {a : α} {K : α → Option β} : ob_ (some a) K = K a := rfl
theorem e_cb {α β S : Type} {a : α} {s : S} {K : α → S → Option β} : cb_ (some (a, s)) K = K a s := rfl
theorem e_ca {α β : Type} {a : α} {g : GS} {c n : Nat} {K : α → GS → Option (β × Nat × Nat)} : ca_ (some ((a, g), c, n)) K = bp_ c n (K a g) := rfl
theorem e_oa {α β : Type} {a : α} {c n : Nat} {K : α → Option (β × Nat × Nat)} : oa_ (some (a, c, n)) K = bp_ c n (K a) := rfl
theorem e_al {β : Type} {g : GS} {k n : Nat} {K : Nat → GS → Option (β × Nat × Nat)} : al_ g k n K = bp_ 1 n (K (gz g) (nw_ g k n)) := rfl
theorem e_bp {α : Type} {c n c' n' : Nat} {o : α} : bp_ c n (some (o, c', n')) = some (o, c' + c, n' + n) := rfl
theorem e_b0 {α : Type} {c n : Nat} {o : α} : bp_ c n (some (o, 0, 0)) = some (o, c, n) := by rw [e_bp, Nat.zero_add, Nat.zero_add]
theorem e_tcl {α β : Type} {a : α} {g : GS} {c k : Nat} {T : Nat × Nat → GS → Option (β × Nat × Nat)} {K : α → GS → Option (β × Nat × Nat)} : tc_ (some ((.inl a, g), c, k)) T K = bp_ c k (K a g) := rfl
theorem e_tcr {α β : Type} {e : Nat × Nat} {g : GS} {c k : Nat} {T : Nat × Nat → GS → Option (β × Nat × Nat)} {K : α → GS → Option (β × Nat × Nat)} : tc_ (some ((.inr e, g), c, k)) T K = bp_ c k (T e g) := rfl
theorem e_na {β : Type} {n : Int32} {K : Option β} (h : ¬ (n < 0 ∨ 134217728 < n.toNatClampNeg)) : na_ n K = K := if_neg h
theorem e_nm {α β : Type} {x : α} {K : α → Option β} : nm_ x K = K x := rfl
theorem bp_0 {α : Type} {x : Option (α × Nat × Nat)} : bp_ 0 0 x = x := by
  cases x with
  | none => rfl
  | some q => rfl
/-! loops that end -/
theorem lp_t {α ε : Type} {body : α → Option (α ⊕ ε)} {I : Nat → α → Prop} {Q : ε → Prop} (h : ∀ k a, I k a → (∃ a' k', k' < k ∧ body a = some (.inl a') ∧ I k' a') ∨ (∃ e, body a = some (.inr e) ∧ Q e)) : ∀ n k a, I k a → k < n → ∃ e, lp_ body n a = some e ∧ Q e := by
  intro n
  induction n with
  | zero => intro k a _ hk; omega
  | succ n ih =>
    intro k a hI hk
    rcases h k a hI with ⟨a', k', hlt, hb, hI'⟩ | ⟨e, hb, hQ⟩
    · obtain ⟨e, h1, h2⟩ := ih k' a' hI' (by omega)
      exact ⟨e, by unfold lp_; rw [hb]; exact h1, h2⟩
    · exact ⟨e, by unfold lp_; rw [hb], hQ⟩
/-- two loops in step -/
theorem lp2_t {α α' ε ε' : Type} {body : α → Option (α ⊕ ε)} {body' : α' → Option (α' ⊕ ε')} {I : Nat → α → α' → Prop} {Q : ε → ε' → Prop}
    (h : ∀ k a b, I k a b → (∃ a' b' k', k' < k ∧ body a = some (.inl a') ∧ body' b = some (.inl b') ∧ I k' a' b') ∨ (∃ e e', body a = some (.inr e) ∧ body' b = some (.inr e') ∧ Q e e')) :
    ∀ n k a b, I k a b → k < n → ∃ e e', lp_ body n a = some e ∧ lp_ body' n b = some e' ∧ Q e e' := by
  intro n
  induction n with
  | zero => intro k a b _ hk; omega
  | succ n ih =>
    intro k a b hI hk
    rcases h k a b hI with ⟨a', b', k', hlt, hb, hb', hI'⟩ | ⟨e, e', hb, hb', hQ⟩
    · obtain ⟨e, e', h1, h1', h2⟩ := ih k' a' b' hI' (by omega)
      exact ⟨e, e', by unfold lp_; rw [hb]; exact h1, by unfold lp_; rw [hb']; exact h1', h2⟩
    · exact ⟨e, e', by unfold lp_; rw [hb], by unfold lp_; rw [hb'], hQ⟩
/-- an allocating loop: what it has spent so far rides along -/
theorem la_t {α ε : Type} {body : α → Option ((α ⊕ ε) × Nat × Nat)} {I : Nat → α → Nat → Nat → Prop} {Q : ε → Nat → Nat → Prop}
    (h : ∀ m a c k, I m a c k → (∃ a' dc dk m', m' < m ∧ body a = some (.inl a', dc, dk) ∧ I m' a' (dc + c) (dk + k)) ∨ (∃ e dc dk, body a = some (.inr e, dc, dk) ∧ Q e (dc + c) (dk + k))) :
    ∀ n m a c k, I m a c k → m < n → ∃ e dc dk, la_ body n a = some (e, dc, dk) ∧ Q e (dc + c) (dk + k) := by
  intro n
  induction n with
  | zero => intro m a c k _ hk; omega
  | succ n ih =>
    intro m a c k hI hk
    rcases h m a c k hI with ⟨a', dc, dk, m', hlt, hb, hI'⟩ | ⟨e, dc, dk, hb, hQ⟩
    · obtain ⟨e, dc', dk', h1, h2⟩ := ih m' a' _ _ hI' (by omega)
      refine ⟨e, dc' + dc, dk' + dk, ?_, ?_⟩
      · unfold la_; rw [hb]; show bp_ dc dk (la_ body n a') = _; rw [h1]; rfl
      · rw [Nat.add_assoc, Nat.add_assoc]; exact h2
    · exact ⟨e, dc, dk, by unfold la_; rw [hb], hQ⟩
/-- an allocating loop in step with a plain one -/
theorem la2_t {α β ε ε' : Type} {body : α → Option ((α ⊕ ε) × Nat × Nat)} {body' : β → Option (β ⊕ ε')} {I : Nat → α → β → Nat → Nat → Prop} {Q : ε → ε' → Nat → Nat → Prop}
    (h : ∀ m a b c k, I m a b c k → (∃ a' b' dc dk m', m' < m ∧ body a = some (.inl a', dc, dk) ∧ body' b = some (.inl b') ∧ I m' a' b' (dc + c) (dk + k)) ∨ (∃ e e' dc dk, body a = some (.inr e, dc, dk) ∧ body' b = some (.inr e') ∧ Q e e' (dc + c) (dk + k))) :
    ∀ n m a b c k, I m a b c k → m < n → ∃ e e' dc dk, la_ body n a = some (e, dc, dk) ∧ lp_ body' n b = some e' ∧ Q e e' (dc + c) (dk + k) := by
  intro n
  induction n with
  | zero => intro m a b c k _ hk; omega
  | succ n ih =>
    intro m a b c k hI hk
    rcases h m a b c k hI with ⟨a', b', dc, dk, m', hlt, hb, hb', hI'⟩ | ⟨e, e', dc, dk, hb, hb', hQ⟩
    · obtain ⟨e, e', dc', dk', h1, h1', h2⟩ := ih m' a' b' _ _ hI' (by omega)
      refine ⟨e, e', dc' + dc, dk' + dk, ?_, ?_, ?_⟩
      · unfold la_; rw [hb]; show bp_ dc dk (la_ body n a') = _; rw [h1]; rfl
      · unfold lp_; rw [hb']; exact h1'
      · rw [Nat.add_assoc, Nat.add_assoc]; exact h2
    · exact ⟨e, e', dc, dk, by unfold la_; rw [hb], by unfold lp_; rw [hb'], hQ⟩
/-- a loop's steps: j of them lead from a to b -/
def LS_ {α ε : Type} (body : α → Option (α ⊕ ε)) (j : Nat) (a b : α) : Prop := ∀ n, lp_ body (n + j) a = lp_ body n b
theorem LS_.rf {α ε : Type} {body : α → Option (α ⊕ ε)} {a : α} : LS_ body 0 a a := fun _ => rfl
theorem LS_.one {α ε : Type} {body : α → Option (α ⊕ ε)} {a b : α} (h : body a = some (.inl b)) : LS_ body 1 a b := fun n => by
  show lp_ body (n + 1) a = _
  rw [lp_, h]
theorem LS_.trans {α ε : Type} {body : α → Option (α ⊕ ε)} {a b c : α} {i j : Nat} (h1 : LS_ body i a b) (h2 : LS_ body j b c) : LS_ body (i + j) a c := fun n => by
  rw [Nat.add_comm i j, ← Nat.add_assoc, h1 (n + j), h2 n]
theorem lp_end {α ε : Type} {body : α → Option (α ⊕ ε)} {a : α} {e : ε} (h : body a = some (.inr e)) (n : Nat) : lp_ body (n + 1) a = some e := by
  rw [lp_, h]
theorem lp_next {α ε : Type} {body : α → Option (α ⊕ ε)} {a b : α} (h : body a = some (.inl b)) (n : Nat) : lp_ body (n + 1) a = lp_ body n b := by
  rw [lp_, h]
/-! numbers -/
theorem i_lt {x y : Int32} : x < y ↔ x.toInt < y.toInt := Int32.lt_iff_toInt_lt
theorem i_le {x y : Int32} : x ≤ y ↔ x.toInt ≤ y.toInt := Int32.le_iff_toInt_le
theorem i_eq {x y : Int32} : x = y ↔ x.toInt = y.toInt := Int32.toInt_inj.symm
theorem i_bm {n : Int} (h1 : -2147483648 ≤ n) (h2 : n ≤ 2147483647) : n.bmod (2 ^ 32) = n := by
  rw [Int.bmod_eq_of_le (by omega) (by omega)]
theorem i_add {x y : Int32} (h1 : -2147483648 ≤ x.toInt + y.toInt) (h2 : x.toInt + y.toInt ≤ 2147483647) : (x + y).toInt = x.toInt + y.toInt := by
  rw [Int32.toInt_add, i_bm h1 h2]
theorem i_sub {x y : Int32} (h1 : -2147483648 ≤ x.toInt - y.toInt) (h2 : x.toInt - y.toInt ≤ 2147483647) : (x - y).toInt = x.toInt - y.toInt := by
  rw [Int32.toInt_sub, i_bm h1 h2]
theorem i_mul {x y : Int32} (h1 : -2147483648 ≤ x.toInt * y.toInt) (h2 : x.toInt * y.toInt ≤ 2147483647) : (x * y).toInt = x.toInt * y.toInt := by
  rw [Int32.toInt_mul, i_bm h1 h2]
theorem i_neg {x : Int32} (h1 : -2147483647 ≤ x.toInt) : (-x).toInt = -x.toInt := by
  have h := Int32.toInt_lt x
  rw [Int32.toInt_neg, i_bm (by omega) (by omega)]
theorem i_rg (x : Int32) : -2147483648 ≤ x.toInt ∧ x.toInt ≤ 2147483647 := by
  have h1 := Int32.toInt_lt x
  have h2 := Int32.le_toInt x
  omega
theorem i_cl (x : Int32) : x.toNatClampNeg = x.toInt.toNat := rfl
theorem i_div {x y : Int32} (h : y ≠ -1) : (x / y).toInt = x.toInt.tdiv y.toInt := Int32.toInt_div_of_ne_right x y h
theorem i_nat {x : Int32} (h : 0 ≤ x.toInt) : ∃ n : Nat, x = nI n ∧ (n : Int) = x.toInt ∧ n < 2147483648 := by
  have h1 := i_rg x
  refine ⟨x.toInt.toNat, ?_, by omega, by omega⟩
  rw [i_eq, nI_toInt (by omega)]
  omega
theorem i_n {n : Nat} (h : n < 2147483648) : (nI n).toInt = (n : Int) := nI_toInt h
end
section
/-! LAWS: frames, lists (own work) -/
set_option maxRecDepth 100000
/-- from g to g': no cell of g but those of W has changed -/
def Fr (W : Nat → Prop) (g g' : GS) : Prop := gz g ≤ gz g' ∧ gS g' = gS g ∧ (∀ q, q < gz g → gK g' q = gK g q ∧ gN g' q = gN g q) ∧ ∀ q, q < gz g → ¬ W q → (∀ i, gI g' q i = gI g q i) ∧ ∀ i, gR g' q i = gR g q i
/-- roles of the cells of g are as they were -/
def Ag (g : GS) (ρ ρ' : Nat → Nat) : Prop := ∀ q, q < gz g → ρ' q = ρ q
/-- all that is new has role r -/
def nr (ρ : Nat → Nat) (g : GS) (r : Nat) : Nat → Nat := fun q => if gz g ≤ q then r else ρ q
def no_ : Nat → Prop := fun _ => False
theorem nr_lt {ρ : Nat → Nat} {g : GS} {r q : Nat} (h : q < gz g) : nr ρ g r q = ρ q := if_neg (by omega)
theorem nr_ge {ρ : Nat → Nat} {g : GS} {r q : Nat} (h : gz g ≤ q) : nr ρ g r q = r := if_pos h
theorem nr_ag {ρ : Nat → Nat} {g : GS} {r : Nat} : Ag g ρ (nr ρ g r) := fun _ h => nr_lt h
theorem Ag.rf {g : GS} {ρ : Nat → Nat} : Ag g ρ ρ := fun _ _ => rfl
theorem Ag.trans {g g1 : GS} {ρ ρ1 ρ2 : Nat → Nat} (h1 : Ag g ρ ρ1) (h2 : Ag g1 ρ1 ρ2) (hz : gz g ≤ gz g1) : Ag g ρ ρ2 := fun q hq => (h2 q (Nat.lt_of_lt_of_le hq hz)).trans (h1 q hq)
theorem Fr.rf {W : Nat → Prop} {g : GS} : Fr W g g := ⟨Nat.le_refl _, rfl, fun _ _ => ⟨rfl, rfl⟩, fun _ _ _ => ⟨fun _ => rfl, fun _ => rfl⟩⟩
theorem Fr.z {W : Nat → Prop} {g g' : GS} (h : Fr W g g') : gz g ≤ gz g' := h.1
theorem Fr.S {W : Nat → Prop} {g g' : GS} (h : Fr W g g') : gS g' = gS g := h.2.1
theorem Fr.K {W : Nat → Prop} {g g' : GS} (h : Fr W g g') {q : Nat} (hq : q < gz g) : gK g' q = gK g q := (h.2.2.1 q hq).1
theorem Fr.N {W : Nat → Prop} {g g' : GS} (h : Fr W g g') {q : Nat} (hq : q < gz g) : gN g' q = gN g q := (h.2.2.1 q hq).2
theorem Fr.I {W : Nat → Prop} {g g' : GS} (h : Fr W g g') {q : Nat} (hq : q < gz g) (hw : ¬ W q) (i : Nat) : gI g' q i = gI g q i := (h.2.2.2 q hq hw).1 i
theorem Fr.R {W : Nat → Prop} {g g' : GS} (h : Fr W g g') {q : Nat} (hq : q < gz g) (hw : ¬ W q) (i : Nat) : gR g' q i = gR g q i := (h.2.2.2 q hq hw).2 i
theorem Fr.lt {W : Nat → Prop} {g g' : GS} (h : Fr W g g') {q : Nat} (hq : q < gz g) : q < gz g' := Nat.lt_of_lt_of_le hq h.1
theorem Fr.trans {W W' : Nat → Prop} {g g1 g2 : GS} (h1 : Fr W g g1) (h2 : Fr W' g1 g2) (h : ∀ q, q < gz g → W' q → W q) : Fr W g g2 := by
  refine ⟨Nat.le_trans h1.1 h2.1, h2.S.trans h1.S, fun q hq => ⟨(h2.K (h1.lt hq)).trans (h1.K hq), (h2.N (h1.lt hq)).trans (h1.N hq)⟩, fun q hq hw => ⟨fun i => ?_, fun i => ?_⟩⟩
  · exact (h2.I (h1.lt hq) (fun k => hw (h q hq k)) i).trans (h1.I hq hw i)
  · exact (h2.R (h1.lt hq) (fun k => hw (h q hq k)) i).trans (h1.R hq hw i)
theorem Fr.mono {W W' : Nat → Prop} {g g' : GS} (h1 : Fr W g g') (h : ∀ q, q < gz g → W q → W' q) : Fr W' g g' := Fr.rf.trans h1 h
theorem Fr.pI {W : Nat → Prop} {g : GS} {a k : Nat} {v : Int32} (h : W a) : Fr W g (pI g a k v) := by
  refine ⟨Nat.le_refl _, rfl, fun _ _ => ⟨rfl, rfl⟩, fun q _ hw => ⟨fun i => ?_, fun _ => rfl⟩⟩
  rw [I_pI, if_neg]
  rintro ⟨rfl, -⟩
  exact hw h
theorem Fr.pR {W : Nat → Prop} {g : GS} {a k v : Nat} (h : W a) : Fr W g (pR g a k v) := by
  refine ⟨Nat.le_refl _, rfl, fun _ _ => ⟨rfl, rfl⟩, fun q _ hw => ⟨fun _ => rfl, fun i => ?_⟩⟩
  rw [R_pR, if_neg]
  rintro ⟨rfl, -⟩
  exact hw h
theorem Fr.nw {W : Nat → Prop} {g : GS} {k n : Nat} : Fr W g (nw_ g k n) := by
  refine ⟨by rw [z_nw]; omega, rfl, fun q hq => ?_, fun q hq _ => ⟨fun i => ?_, fun i => ?_⟩⟩
  · rw [K_nw, N_nw, if_neg (by omega), if_neg (by omega)]; exact ⟨rfl, rfl⟩
  · rw [I_nw, if_neg (by omega)]
  · rw [R_nw, if_neg (by omega)]
theorem Fr.cR {W : Nat → Prop} {g : GS} {a sp b dp n : Nat} (h : W b) : Fr W g (cR_ g a sp b dp n) := by
  refine ⟨Nat.le_refl _, rfl, fun _ _ => ⟨rfl, rfl⟩, fun q _ hw => ⟨fun _ => rfl, fun i => ?_⟩⟩
  rw [R_cR, if_neg]
  rintro ⟨rfl, -⟩
  exact hw h
theorem Fr.cI {W : Nat → Prop} {g : GS} {a sp b dp n : Nat} (h : W b) : Fr W g (cI_ g a sp b dp n) := by
  refine ⟨Nat.le_refl _, rfl, fun _ _ => ⟨rfl, rfl⟩, fun q _ hw => ⟨fun i => ?_, fun _ => rfl⟩⟩
  rw [I_cI, if_neg]
  rintro ⟨rfl, -⟩
  exact hw h
theorem Fr.sk {W : Nat → Prop} {g : GS} {n : Nat} : Fr W g (sk_ g n) := ⟨by rw [z_sk]; omega, rfl, fun _ _ => ⟨rfl, rfl⟩, fun _ _ _ => ⟨fun _ => rfl, fun _ => rfl⟩⟩
/-- the list b, all of whose cells have role r, with its places in the array e: it holds xs -/
def LiPe (g : GS) (ρ : Nat → Nat) (r b e : Nat) (xs : List Nat) : Prop :=
  gK g b = 12 ∧ ρ b = r ∧ b < gz g ∧ gI g b 2 = nI xs.length ∧ gR g b 1 = e + 1 ∧ e < gz g ∧ ((gK g e = 103 ∧ ρ e = r) ∨ (gK g e = 1103 ∧ ρ e = 0 ∧ gN g e = 0)) ∧ xs.length ≤ gN g e ∧ gN g e ≤ 2000 ∧
  ∀ i y, xs[i]? = some y → gR g e i = y + 1 ∧ y < gz g ∧ g_sto (gK g y % 1000) = true
def LiP (g : GS) (ρ : Nat → Nat) (r b : Nat) (xs : List Nat) : Prop := ∃ e, LiPe g ρ r b e xs
theorem LiPe.to' {W : Nat → Prop} {g g' : GS} {ρ ρ' : Nat → Nat} {r b e : Nat} {xs : List Nat} (h : LiPe g ρ r b e xs) (hF : Fr W g g') (hA : ∀ q, q < gz g → ρ q = r ∨ ρ q = 0 → ρ' q = ρ q) (hW : ∀ q, q < gz g → ρ q = r ∨ ρ q = 0 → ¬ W q) : LiPe g' ρ' r b e xs := by
  obtain ⟨h1, h2, h3, h4, h5, h6, h7, h8, h9, h10⟩ := h
  have hb := hW b h3 (Or.inl h2)
  have he : ¬ W e := hW e h6 (by rcases h7 with ⟨_, k⟩ | ⟨_, k, _⟩ <;> simp [k])
  refine ⟨by rw [hF.K h3, h1], by rw [hA b h3 (Or.inl h2), h2], hF.lt h3, by rw [hF.I h3 hb, h4], by rw [hF.R h3 hb, h5], hF.lt h6, ?_, by rw [hF.N h6]; exact h8, by rw [hF.N h6]; exact h9, fun i y hy => ?_⟩
  · rw [hF.K h6, hF.N h6, hA e h6 (by rcases h7 with ⟨_, k⟩ | ⟨_, k, _⟩ <;> simp [k])]; exact h7
  · obtain ⟨k1, k2, k3⟩ := h10 i y hy
    exact ⟨by rw [hF.R h6 he, k1], hF.lt k2, by rw [hF.K k2]; exact k3⟩
theorem LiPe.to {W : Nat → Prop} {g g' : GS} {ρ ρ' : Nat → Nat} {r b e : Nat} {xs : List Nat} (h : LiPe g ρ r b e xs) (hF : Fr W g g') (hA : Ag g ρ ρ') (hW : ∀ q, q < gz g → ρ q = r ∨ ρ q = 0 → ¬ W q) : LiPe g' ρ' r b e xs := h.to' hF (fun q hq _ => hA q hq) hW
theorem LiP.to' {W : Nat → Prop} {g g' : GS} {ρ ρ' : Nat → Nat} {r b : Nat} {xs : List Nat} (h : LiP g ρ r b xs) (hF : Fr W g g') (hA : ∀ q, q < gz g → ρ q = r ∨ ρ q = 0 → ρ' q = ρ q) (hW : ∀ q, q < gz g → ρ q = r ∨ ρ q = 0 → ¬ W q) : LiP g' ρ' r b xs := by
  obtain ⟨e, h⟩ := h
  exact ⟨e, h.to' hF hA hW⟩
theorem LiP.to {W : Nat → Prop} {g g' : GS} {ρ ρ' : Nat → Nat} {r b : Nat} {xs : List Nat} (h : LiP g ρ r b xs) (hF : Fr W g g') (hA : Ag g ρ ρ') (hW : ∀ q, q < gz g → ρ q = r ∨ ρ q = 0 → ¬ W q) : LiP g' ρ' r b xs := by
  obtain ⟨e, h⟩ := h
  exact ⟨e, h.to hF hA hW⟩
/-- other roles' names -/
theorem LiPe.re {g : GS} {ρ ρ' : Nat → Nat} {r r' b e : Nat} {xs : List Nat} (h : LiPe g ρ r b e xs) (h1 : ∀ q, q < gz g → ρ q = r → ρ' q = r') (h0 : ∀ q, q < gz g → ρ q = 0 → ρ' q = 0) : LiPe g ρ' r' b e xs := by
  obtain ⟨k1, k2, k3, k4, k5, k6, k7, k8⟩ := h
  refine ⟨k1, h1 b k3 k2, k3, k4, k5, k6, ?_, k8⟩
  rcases k7 with ⟨a, c⟩ | ⟨a, c, d⟩
  · exact Or.inl ⟨a, h1 e k6 c⟩
  · exact Or.inr ⟨a, h0 e k6 c, d⟩
theorem LiP.re {g : GS} {ρ ρ' : Nat → Nat} {r r' b : Nat} {xs : List Nat} (h : LiP g ρ r b xs) (h1 : ∀ q, q < gz g → ρ q = r → ρ' q = r') (h0 : ∀ q, q < gz g → ρ q = 0 → ρ' q = 0) : LiP g ρ' r' b xs := by
  obtain ⟨e, h⟩ := h
  exact ⟨e, h.re h1 h0⟩
theorem LiP.K {g : GS} {ρ : Nat → Nat} {r b : Nat} {xs : List Nat} (h : LiP g ρ r b xs) : gK g b = 12 := by
  obtain ⟨e, h⟩ := h
  exact h.1
theorem LiP.lt {g : GS} {ρ : Nat → Nat} {r b : Nat} {xs : List Nat} (h : LiP g ρ r b xs) : b < gz g := by
  obtain ⟨e, h⟩ := h
  exact h.2.2.1
theorem LiP.len {g : GS} {ρ : Nat → Nat} {r b : Nat} {xs : List Nat} (h : LiP g ρ r b xs) : xs.length ≤ 2000 := by
  obtain ⟨e, h⟩ := h
  exact Nat.le_trans h.2.2.2.2.2.2.2.1 h.2.2.2.2.2.2.2.2.1
theorem J2_size_l {g : GS} {ρ : Nat → Nat} {r b : Nat} {xs : List Nat} (h : LiP g ρ r b xs) : J2_size b g = some (nI xs.length) := by
  obtain ⟨e, h1, h2, h3, h4, h5⟩ := h
  unfold J2_size
  rw [e_wk h1, h4]
theorem J2_isEmpty_l {g : GS} {ρ : Nat → Nat} {r b : Nat} {xs : List Nat} (h : LiP g ρ r b xs) : J2_isEmpty b g = some (if xs.length = 0 then 1 else 0) := by
  have hl := h.len
  obtain ⟨e, h1, h2, h3, h4, h5⟩ := h
  unfold J2_isEmpty
  rw [e_wk h1, h4]
  by_cases hx : xs.length = 0
  · rw [hx, nI_0, if_pos rfl, if_pos rfl]
  · rw [if_neg (nI_ne0 (by omega) (by omega)), if_neg hx]
theorem J17_checkIndex_l {i n : Nat} {g : GS} (h : i < n) (hn : n < 2 ^ 31) : J17_checkIndex (nI i) (nI n) g = some (nI i) := by
  unfold J17_checkIndex J11_checkIndex
  rw [if_neg (nI_pos (by omega)), if_pos (nI_lt h hn)]
  rfl
theorem LiP.at {g : GS} {ρ : Nat → Nat} {r b i y : Nat} {xs : List Nat} (h : LiP g ρ r b xs) (hy : xs[i]? = some y) : y < gz g ∧ g_sto (gK g y % 1000) = true ∧ i < xs.length := by
  obtain ⟨e, h⟩ := h
  obtain ⟨-, k2, k3⟩ := h.2.2.2.2.2.2.2.2.2 i y hy
  exact ⟨k2, k3, (List.getElem?_eq_some_iff.mp hy).1⟩
theorem J2_get_l {g : GS} {ρ : Nat → Nat} {r b i y : Nat} {xs : List Nat} (h : LiP g ρ r b xs) (hy : xs[i]? = some y) : J2_get b (nI i) g = some y := by
  have hl := h.len
  have hi := (List.getElem?_eq_some_iff.mp hy).1
  obtain ⟨e, h1, h2, h3, h4, h5, h6, h7, h8, h9, h10⟩ := h
  have hk : gK g e % 1000 = 103 := by rcases h7 with ⟨k, _⟩ | ⟨k, _⟩ <;> rw [k]
  unfold J2_get
  rw [e_wk h1, h4, J17_checkIndex_l hi (by omega), e_ob]
  unfold J2_elementData
  rw [e_wk h1, h5, e_nn, e_rk hk, e_inN (by omega) (by omega), nI_clamp (by omega), (h10 i y hy).1, e_nn]
  rfl
theorem len_snoc {xs : List Nat} {x : Nat} : (xs ++ [x]).length = xs.length + 1 := by simp
theorem get_snoc {xs : List Nat} {x i y : Nat} (h : (xs ++ [x])[i]? = some y) : (i < xs.length ∧ xs[i]? = some y) ∨ (i = xs.length ∧ y = x) := by
  rcases Nat.lt_trichotomy i xs.length with hi | hi | hi
  · rw [List.getElem?_append_left hi] at h
    exact Or.inl ⟨hi, h⟩
  · subst hi
    simp at h
    exact Or.inr ⟨rfl, h.symm⟩
  · rw [List.getElem?_eq_none (by simp; omega)] at h
    cases h
/-- what add leaves: the place is free -/
theorem J2_add_2_j11_l {g : GS} {ρ : Nat → Nat} {r b e x : Nat} {xs : List Nat} (hb : gK g b = 12) (hrb : ρ b = r) (hbz : b < gz g) (hR : gR g b 1 = e + 1) (hez : e < gz g) (hke : gK g e = 103) (hre : ρ e = r) (hN : xs.length < gN g e) (hN2 : gN g e ≤ 2000)
    (hel : ∀ i y, xs[i]? = some y → gR g e i = y + 1 ∧ y < gz g ∧ g_sto (gK g y % 1000) = true) (hx : x < gz g) (hs : g_sto (gK g x % 1000) = true) :
    ∃ g', J2_add_2_j11 b x e (nI xs.length) g = some (((), g'), 0, 0) ∧ LiPe g' ρ r b e (xs ++ [x]) ∧ Fr (fun q => q = b ∨ q = e) g g' ∧ gz g' = gz g := by
  have hne : b ≠ e := by intro h; rw [h, hke] at hb; omega
  have hc : (nI xs.length).toNatClampNeg = xs.length := nI_clamp (by omega)
  refine ⟨pI (pR g e xs.length (x + 1)) b 2 (nI xs.length + 1), ?_, ?_, ?_, rfl⟩
  · unfold J2_add_2_j11
    rw [e_wk hke, e_inN hN (by omega), hs, e_gd, e_wk (by rw [K_pR]; exact hb), hc]
  · refine ⟨hb, hrb, hbz, ?_, ?_, hez, Or.inl ⟨hke, hre⟩, ?_, hN2, fun i y hy => ?_⟩
    · rw [I_pI, if_pos ⟨rfl, rfl⟩, len_snoc, nI_1]
    · rw [R_pI, R_pR, if_neg (by rintro ⟨k, -⟩; exact hne k), hR]
    · rw [len_snoc]; exact hN
    · rw [R_pI, R_pR]
      rcases get_snoc hy with ⟨k1, k2⟩ | ⟨k1, k2⟩
      · rw [if_neg (by rintro ⟨-, k⟩; omega)]
        exact hel i y k2
      · subst k1 k2
        rw [if_pos ⟨rfl, rfl⟩]
        exact ⟨rfl, hx, hs⟩
  · exact (Fr.pR (Or.inr rfl)).trans (Fr.pI (W := fun q => q = b ∨ q = e) (Or.inl rfl)) (fun _ _ k => k)
theorem J15_newLength_l {n : Nat} (hn : n ≤ 1300) : J15_newLength (nI n) (nI (n + 1) - nI n) (nI n >>> ((1 : Int32) &&& 31)) = some (nI (n + max 1 (n / 2))) := by
  have h1 : nI (n + 1) - nI n = nI 1 := by
    rw [i_eq, i_sub (by rw [i_n (by omega), i_n (by omega)]; omega) (by rw [i_n (by omega), i_n (by omega)]; omega), i_n (by omega), i_n (by omega), i_n (by omega)]; omega
  have h2 : nI n >>> ((1 : Int32) &&& 31) = nI (n / 2) := pk_shrN (by omega) _ 1 (by decide)
  have h3 : jmax_ (nI 1) (nI (n / 2)) = nI (max 1 (n / 2)) := by
    unfold jmax_
    by_cases h : 1 < n / 2
    · rw [if_pos (nI_lt h (by omega)), Nat.max_eq_right (by omega)]
    · rw [if_neg (nI_nlt (by omega) (by omega)), Nat.max_eq_left (by omega)]
  unfold J15_newLength
  rw [h1, h2, h3, nI_add, if_neg (nI_nle (by omega) (by omega)), if_neg]
  rw [i_lt, i_n (by omega)]
  show ¬ (2147483639 : Int) < _
  omega
theorem acR_l {g : GS} {a b n : Nat} (h1 : n ≤ gN g a) (h2 : n ≤ gN g b) (hn : n < 2 ^ 31) (sp : Nat) (hsp : sp = 0) (h : ∀ i, i < n → gR g a i = 0 ∨ ∃ y, gR g a i = y + 1 ∧ g_sto (gK g y % 1000) = true) : acR_ g a 0 b 0 (nI n) = true := by
  subst hsp
  unfold acR_
  rw [Bool.and_eq_true]
  refine ⟨decide_eq_true ⟨by decide, by decide, nI_pos hn, ?_, ?_⟩, ?_⟩
  · rw [nI_clamp hn]; show 0 + n ≤ _; omega
  · rw [nI_clamp hn]; show 0 + n ≤ _; omega
  · rw [List.all_eq_true]
    intro i hi
    rw [List.mem_range, nI_clamp hn] at hi
    show eo_ g (gR g a (0 + i)) = true
    rw [Nat.zero_add]
    unfold eo_
    rcases h i hi with k | ⟨y, k1, k2⟩
    · rw [k]; rfl
    · rw [k1, Nat.add_sub_cancel, k2, Bool.or_true]
theorem jmin_l {a b : Nat} (ha : a < 2 ^ 31) (hb : b < 2 ^ 31) : jmin_ (nI a) (nI b) = nI (min a b) := by
  unfold jmin_
  by_cases h : b < a
  · rw [if_pos (nI_lt h ha), Nat.min_eq_right (by omega)]
  · rw [if_neg (nI_nlt (by omega) hb), Nat.min_eq_left (by omega)]
theorem jmax_l {a b : Nat} (ha : a < 2 ^ 31) (hb : b < 2 ^ 31) : jmax_ (nI a) (nI b) = nI (max a b) := by
  unfold jmax_
  by_cases h : a < b
  · rw [if_pos (nI_lt h hb), Nat.max_eq_right (by omega)]
  · rw [if_neg (nI_nlt (by omega) ha), Nat.max_eq_left (by omega)]
/-- a copy of an array's first n places (n may be more than it has) -/
theorem J16_copyOf_l {g : GS} {e n : Nat} (hk : gK g e % 1000 = 103) (he : e < gz g) (hN : gN g e ≤ 2000) (hn : n ≤ 2000) (h : ∀ i, i < min (gN g e) n → gR g e i = 0 ∨ ∃ y, gR g e i = y + 1 ∧ y < gz g ∧ g_sto (gK g y % 1000) = true) :
    ∃ g', J16_copyOf e (nI n) g = some ((gz g, g'), 1, n) ∧ Fr no_ g g' ∧ gz g' = gz g + 1 ∧ gK g' (gz g) = 103 ∧ gN g' (gz g) = n ∧ ∀ i, i < min (gN g e) n → gR g' (gz g) i = gR g e i := by
  have hne : e ≠ gz g := by omega
  have hF : Fr no_ g (nw_ g 103 n) := Fr.nw
  refine ⟨cR_ (nw_ g 103 n) e 0 (gz g) 0 (min (gN g e) n), ?_, ?_, ?_, ?_, ?_, ?_⟩
  · unfold J16_copyOf
    rw [e_rk hk]
    unfold J16_copyOf_2
    rw [if_pos rfl, e_na (by rintro (k | k); exact nI_pos (by omega) k; rw [nI_clamp (by omega)] at k; omega), e_al, nI_clamp (by omega)]
    unfold J16_copyOf_2_j24
    have hm : jmin_ (Int32.ofNat (gN (nw_ g 103 n) e)) (nI n) = nI (min (gN g e) n) := by
      rw [N_nw, if_neg hne]
      exact jmin_l (by omega) (by omega)
    rw [e_rk (by rw [K_nw, if_neg hne]; exact hk), e_wk (by rw [K_nw, if_pos rfl]), hm, acR_l (by rw [N_nw, if_neg hne]; omega) (by rw [N_nw, if_pos rfl]; omega) (by omega) 0 rfl ?_, e_gd, nI_clamp (by omega), e_b0, e_ca, e_b0]
    · rfl
    · intro i hi
      rcases h i hi with k | ⟨y, k1, k2, k3⟩
      · exact Or.inl (by rw [R_nw, if_neg hne]; exact k)
      · exact Or.inr ⟨y, by rw [R_nw, if_neg hne]; exact k1, by rw [K_nw, if_neg (by omega)]; exact k3⟩
  · exact hF.trans (Fr.cR (W := fun q => q = gz g) rfl) (fun q hq k => by omega)
  · rfl
  · rw [K_cR, K_nw, if_pos rfl]
  · rw [N_cR, N_nw, if_pos rfl]
  · intro i hi
    rw [R_cR, if_pos ⟨rfl, by omega, by omega⟩, R_nw, if_neg hne]
    congr 1
    omega
theorem J2_grow_j20_l {g : GS} {ρ : Nat → Nat} {r b e : Nat} {xs : List Nat} (h : LiPe g ρ r b e xs) (hfull : xs.length = gN g e) (hl : xs.length ≤ 1300) :
    ∃ g' n, J2_grow_2_j20 b (nI (xs.length + 1)) (Int32.ofNat (gN g e)) g = some ((gz g, g'), 1, n) ∧ gz g' = gz g + 1 ∧ Fr (fun q => q = b) g g' ∧ gK g' (gz g) = 103 ∧ gN g' (gz g) = n ∧ xs.length < n ∧ n ≤ 2000 ∧ 4 * xs.length ≤ 3 * n ∧ (n ≤ 10 ∨ 2 * n ≤ 20 + 3 * xs.length) ∧ gR g' b 1 = gz g + 1 ∧ (∀ i, gI g' b i = gI g b i) ∧ ∀ i y, xs[i]? = some y → gR g' (gz g) i = y + 1 := by
  obtain ⟨h1, h2, h3, h4, h5, h6, h7, h8, h9, h10⟩ := h
  have hk : gK g e % 1000 = 103 := by rcases h7 with ⟨k, _⟩ | ⟨k, _⟩ <;> rw [k]
  have hlen : J15_newLength (Int32.ofNat (gN g e)) (nI (xs.length + 1) - Int32.ofNat (gN g e)) (Int32.ofNat (gN g e) >>> ((1 : Int32) &&& 31)) = some (nI (xs.length + max 1 (xs.length / 2))) := by
    rw [← hfull]
    exact J15_newLength_l hl
  have hin : ∀ i, i < min (gN g e) (xs.length + max 1 (xs.length / 2)) → ∃ y, xs[i]? = some y := fun i hi => ⟨xs[i]'(by omega), List.getElem?_eq_getElem (by omega)⟩
  obtain ⟨g1, c1, c2, c3, c4, c5, c6⟩ := J16_copyOf_l (g := g) (e := e) (n := xs.length + max 1 (xs.length / 2)) hk h6 h9 (by omega) (fun i hi => by
    obtain ⟨y, hy⟩ := hin i hi
    obtain ⟨k1, k2, k3⟩ := h10 i y hy
    exact Or.inr ⟨y, k1, k2, k3⟩)
  have hb1 : gK g1 b = 12 := by rw [c2.K h3, h1]
  have hbe : b ≠ gz g := by omega
  refine ⟨pR g1 b 1 (gz g + 1), xs.length + max 1 (xs.length / 2), ?_, ?_, ?_, ?_, ?_, by omega, by omega, by omega, by omega, ?_, ?_, ?_⟩
  · unfold J2_grow_2_j20
    rw [hlen, e_ob, e_wk h1, h5, e_nn, c1, e_ca, e_wk hb1, e_bp, Nat.zero_add, Nat.zero_add]
  · rw [z_pR, c3]
  · exact (c2.mono (W' := fun q => q = b) (fun _ _ k => k.elim)).trans (Fr.pR (W := fun q => q = b) rfl) (fun _ _ k => k)
  · rw [K_pR, c4]
  · rw [N_pR, c5]
  · rw [R_pR, if_pos ⟨rfl, rfl⟩]
  · intro i
    rw [I_pR, c2.I h3 (fun k => k)]
  · intro i y hy
    have hi := (List.getElem?_eq_some_iff.mp hy).1
    rw [R_pR, if_neg (by rintro ⟨k, -⟩; exact hbe k.symm), c6 i (by omega), (h10 i y hy).1]
theorem J2_grow_l {g : GS} {ρ : Nat → Nat} {r b e : Nat} {xs : List Nat} (h : LiPe g ρ r b e xs) (hS : ∃ d, gS g 1 = d + 1) (hfull : xs.length = gN g e) (hl : xs.length ≤ 1300) :
    ∃ g' n, J2_grow b g = some ((gz g, g'), 1, n) ∧ gz g' = gz g + 1 ∧ Fr (fun q => q = b) g g' ∧ gK g' (gz g) = 103 ∧ gN g' (gz g) = n ∧ xs.length < n ∧ n ≤ 2000 ∧ 4 * xs.length ≤ 3 * n ∧ (n ≤ 10 ∨ 2 * n ≤ 20 + 3 * xs.length) ∧ gR g' b 1 = gz g + 1 ∧ (∀ i, gI g' b i = gI g b i) ∧ ∀ i y, xs[i]? = some y → gR g' (gz g) i = y + 1 := by
  obtain ⟨g1, n, k1, kr⟩ := J2_grow_j20_l h hfull hl
  obtain ⟨h1, h2, h3, h4, h5, h6, h7, h8, h9, h10⟩ := h
  have hk : gK g e % 1000 = 103 := by rcases h7 with ⟨k, _⟩ | ⟨k, _⟩ <;> rw [k]
  by_cases h0 : xs.length = 0
  · obtain ⟨d, hd⟩ := hS
    by_cases he : e = d
    · have hx : xs = [] := List.length_eq_zero_iff.mp h0
      refine ⟨pR (nw_ g 103 10) b 1 (gz g + 1), 10, ?_, rfl, ?_, ?_, ?_, by omega, by omega, by omega, by omega, ?_, ?_, ?_⟩
      · have hj : jmax_ 10 (nI xs.length + 1) = nI 10 := by rw [h0]; rfl
        unfold J2_grow J2_grow_2
        rw [e_wk h1, e_wk h1, h5, e_nn, e_rk hk, if_neg, e_nn, hd, e_nn, if_pos he, h4, hj, e_na (by decide), e_al]
        · rw [e_wk (by rw [K_nw, if_neg (by omega)]; exact h1)]
          rfl
        · rw [← hfull, h0]
          decide
      · exact (Fr.nw (W := fun q => q = b)).trans (Fr.pR (W := fun q => q = b) rfl) (fun _ _ k => k)
      · rw [K_pR, K_nw, if_pos rfl]
      · rw [N_pR, N_nw, if_pos rfl]
      · rw [R_pR, if_pos ⟨rfl, rfl⟩]
      · intro i
        rw [I_pR, I_nw, if_neg (by omega)]
      · intro i y hy
        rw [hx] at hy
        cases hy
    · refine ⟨g1, n, ?_, kr⟩
      unfold J2_grow J2_grow_2
      rw [e_wk h1, e_wk h1, h5, e_nn, e_rk hk, if_neg, e_nn, hd, e_nn, if_neg he, h4, nI_1, k1, e_ca, e_b0]
      · rw [← hfull, h0]
        decide
  · refine ⟨g1, n, ?_, kr⟩
    unfold J2_grow J2_grow_2
    rw [e_wk h1, e_wk h1, h5, e_nn, e_rk hk, if_pos, h4, nI_1, k1, e_ca, e_b0]
    · exact nI_lt (a := 0) (by omega) (by omega)
/-- add: one element more; what it costs is paid out of the room of the array -/
theorem J2_add_l {g : GS} {ρ : Nat → Nat} {r b e x : Nat} {xs : List Nat} (h : LiPe g ρ r b e xs) (hS : ∃ d, gS g 1 = d + 1) (hl : xs.length ≤ 1300) (hx : x < gz g) (hs : g_sto (gK g x % 1000) = true) :
    ∃ g' e' dc ds, J2_add b x g = some ((1, g'), dc, ds) ∧ LiPe g' (nr ρ g r) r b e' (xs ++ [x]) ∧ Fr (fun q => q = b ∨ (q = e ∧ gK g e = 103)) g g' ∧ dc ≤ 1 ∧ ds + 4 * gN g e ≤ 4 * gN g' e' ∧ (gN g' e' ≤ gN g e ∨ gN g' e' ≤ 10 ∨ 2 * gN g' e' ≤ 20 + 3 * xs.length) ∧ gz g' = gz g + dc ∧ ds ≤ 10 + 2 * xs.length ∧ (e' = e ∨ (e' = gz g ∧ dc = 1)) := by
  have h0 := h
  obtain ⟨h1, h2, h3, h4, h5, h6, h7, h8, h9, h10⟩ := h
  have hk : gK g e % 1000 = 103 := by rcases h7 with ⟨k, _⟩ | ⟨k, _⟩ <;> rw [k]
  have hF0 : Fr (fun q => q = b) g (pI g b 0 (gI g b 0 + 1)) := Fr.pI rfl
  have hI2 : gI (pI g b 0 (gI g b 0 + 1)) b 2 = nI xs.length := by rw [I_pI, if_neg (by rintro ⟨-, k⟩; cases k), h4]
  by_cases hfull : xs.length = gN g e
  · have h0' : LiPe (pI g b 0 (gI g b 0 + 1)) ρ r b e xs := ⟨h1, h2, h3, hI2, h5, h6, h7, h8, h9, h10⟩
    obtain ⟨g1, n, k1, k2, k3, k4, k5, k6, k7, k8, k9, k10, k11, k12⟩ := J2_grow_l h0' hS hfull hl
    have hz : gz (pI g b 0 (gI g b 0 + 1)) = gz g := rfl
    rw [hz] at k1 k2 k4 k5 k10 k12
    obtain ⟨g2, m1, m2, m3, m4⟩ := J2_add_2_j11_l (g := g1) (ρ := nr ρ g r) (r := r) (b := b) (e := gz g) (x := x) (xs := xs) (by rw [k3.K h3]; exact h1) (by rw [nr_lt h3, h2]) (by omega) k10 (by omega) k4 (nr_ge (Nat.le_refl _)) (by omega) (by omega)
      (fun i y hy => by
        obtain ⟨n1, n2, n3⟩ := h10 i y hy
        exact ⟨k12 i y hy, by omega, by rw [k3.K (show y < gz (pI g b 0 _) from n2)]; exact n3⟩) (by omega) (by rw [k3.K (show x < gz (pI g b 0 _) from hx)]; exact hs)
    have hN2 : gN g2 (gz g) = n := by rw [m3.N (by omega), k5]
    refine ⟨g2, gz g, 1, n, ?_, m2, ?_, by omega, by rw [hN2]; omega, by rw [hN2]; omega, by rw [m4, k2], by omega, Or.inr ⟨rfl, rfl⟩⟩
    · unfold J2_add J2_add_2
      rw [e_wk h1, R_pI, h5, e_nn, e_rk (g := pI g b 0 (gI g b 0 + 1)) hk, hI2, if_pos, e_wk (g := pI g b 0 (gI g b 0 + 1)) h1, k1, e_ca, m1, e_b0, e_ca, e_b0]
      · show nI xs.length = nI (gN g e)
        rw [hfull]
    · refine (hF0.trans k3 (fun _ _ k => k)).mono (fun _ _ k => Or.inl k) |>.trans m3 (fun q hq k => ?_)
      rcases k with k | k
      · exact Or.inl k
      · omega
  · have hke : gK g e = 103 ∧ ρ e = r := by
      rcases h7 with k | ⟨k, _, k3⟩
      · exact k
      · omega
    obtain ⟨g2, m1, m2, m3, m4⟩ := J2_add_2_j11_l (g := pI g b 0 (gI g b 0 + 1)) (ρ := ρ) (r := r) (b := b) (e := e) (x := x) (xs := xs) h1 h2 h3 h5 h6 hke.1 hke.2 (show xs.length < gN g e by omega) h9 h10 hx hs
    have hN2 : gN g2 e = gN g e := m3.N h6
    refine ⟨g2, e, 0, 0, ?_, ?_, ?_, by omega, by rw [hN2]; omega, by rw [hN2]; omega, by rw [m4]; rfl, by omega, Or.inl rfl⟩
    · unfold J2_add J2_add_2
      rw [e_wk h1, R_pI, h5, e_nn, e_rk (g := pI g b 0 (gI g b 0 + 1)) hk, hI2, if_neg, m1, e_ca, e_b0]
      · show ¬ nI xs.length = nI (gN g e)
        rw [nI_eq (by omega) (by omega)]
        exact hfull
    · exact m2.re (fun q hq k => by rw [nr_lt (by rw [m4] at hq; exact hq)]; exact k) (fun q hq k => by rw [nr_lt (by rw [m4] at hq; exact hq)]; exact k)
    · refine (hF0.mono (W' := fun q => q = b ∨ (q = e ∧ gK g e = 103)) (fun _ _ k => Or.inl k)).trans m3 (fun q hq k => ?_)
      exact k.elim (fun k => Or.inl k) (fun k => Or.inr ⟨k, hke.1⟩)
end
section
/-! LAWS: lists of Integers, remove, set, clear, copies (own work) -/
set_option maxRecDepth 100000
/-- the two empty arrays -/
def EnE (g : GS) (ρ : Nat → Nat) : Prop := (∃ d, gS g 1 = d + 1 ∧ d < gz g ∧ gK g d = 1103 ∧ gN g d = 0 ∧ ρ d = 0) ∧ ∃ d, gS g 2 = d + 1 ∧ d < gz g ∧ gK g d = 1103 ∧ gN g d = 0 ∧ ρ d = 0
theorem EnE.to {W : Nat → Prop} {g g' : GS} {ρ ρ' : Nat → Nat} (h : EnE g ρ) (hF : Fr W g g') (hA : Ag g ρ ρ') : EnE g' ρ' := by
  obtain ⟨⟨d, a1, a2, a3, a4, a5⟩, ⟨f, b1, b2, b3, b4, b5⟩⟩ := h
  exact ⟨⟨d, by rw [hF.S, a1], hF.lt a2, by rw [hF.K a2, a3], by rw [hF.N a2, a4], by rw [hA d a2, a5]⟩, ⟨f, by rw [hF.S, b1], hF.lt b2, by rw [hF.K b2, b3], by rw [hF.N b2, b4], by rw [hA f b2, b5]⟩⟩
theorem EnE.s1 {g : GS} {ρ : Nat → Nat} (h : EnE g ρ) : ∃ d, gS g 1 = d + 1 := by
  obtain ⟨⟨d, a, -⟩, -⟩ := h
  exact ⟨d, a⟩
/-- a new list -/
theorem J2_init_l {g : GS} {ρ : Nat → Nat} (hE : EnE g ρ) (r : Nat) : ∃ g' e, J2_init (gz g) (nw_ g 12 3) = some g' ∧ LiPe g' (nr ρ g r) r (gz g) e [] ∧ Fr no_ g g' ∧ gz g' = gz g + 1 ∧ gN g' e = 0 ∧ gK g' e = 1103 := by
  obtain ⟨⟨d, a1, a2, a3, a4, a5⟩, -⟩ := hE
  have hne : d ≠ gz g := by omega
  refine ⟨pR (pI (nw_ g 12 3) (gz g) 0 0) (gz g) 1 (d + 1), d, ?_, ⟨?_, nr_ge (Nat.le_refl _), ?_, ?_, ?_, ?_, ?_, ?_, ?_, ?_⟩, ?_, rfl, ?_, ?_⟩
  · unfold J2_init J1_init J0_init
    rw [e_ob, e_wk (by rw [K_nw, if_pos rfl]), e_ob, S_pI, S_nw, a1, e_nn, e_wk (by rw [K_pI, K_nw, if_pos rfl])]
  · rw [K_pR, K_pI, K_nw, if_pos rfl]
  · show gz g < gz g + 1; omega
  · rw [I_pR, I_pI, if_neg (by rintro ⟨-, k⟩; cases k), I_nw, if_pos rfl]; rfl
  · rw [R_pR, if_pos ⟨rfl, rfl⟩]
  · show d < gz g + 1; omega
  · exact Or.inr ⟨by rw [K_pR, K_pI, K_nw, if_neg hne, a3], by rw [nr_lt a2, a5], by rw [N_pR, N_pI, N_nw, if_neg hne, a4]⟩
  · exact Nat.zero_le _
  · rw [N_pR, N_pI, N_nw, if_neg hne, a4]; omega
  · intro i y hy; cases hy
  · refine (Fr.nw (W := no_)).trans ((Fr.pI (W := fun q => q = gz g) rfl).trans (Fr.pR (W := fun q => q = gz g) rfl) (fun _ _ k => k)) (fun q hq k => ?_)
    omega
  · rw [N_pR, N_pI, N_nw, if_neg hne, a4]
  · rw [K_pR, K_pI, K_nw, if_neg hne, a3]
/-- a list that copies another -/
theorem J2_init2_l {g : GS} {ρ : Nat → Nat} {r rs u b e : Nat} {xs : List Nat} (hE : EnE g ρ) (hu : gK g u = 12) (hur : ρ u = r) (huz : u < gz g) (h : LiPe g ρ rs b e xs) (hub : u ≠ b) :
    ∃ g' e', J2_init_2 u b g = some (((), g'), 1, xs.length) ∧ LiPe g' (nr ρ g r) r u e' xs ∧ Fr (fun q => q = u) g g' ∧ gz g' = gz g + 1 := by
  obtain ⟨-, ⟨d, a1, a2, a3, a4, a5⟩⟩ := hE
  obtain ⟨h1, h2, h3, h4, h5, h6, h7, h8, h9, h10⟩ := h
  have hk : gK g e % 1000 = 103 := by rcases h7 with ⟨k, _⟩ | ⟨k, _⟩ <;> rw [k]
  have hF0 : Fr (fun q => q = u) g (pI g u 0 0) := Fr.pI rfl
  obtain ⟨g1, c1, c2, c3, c4, c5, c6⟩ := J16_copyOf_l (g := pI g u 0 0) (e := e) (n := xs.length) hk h6 h9 (by omega) (fun i hi => by
    have hi' : i < xs.length := by omega
    obtain ⟨k1, k2, k3⟩ := h10 i _ (List.getElem?_eq_getElem hi')
    exact Or.inr ⟨_, k1, k2, k3⟩)
  have hz0 : gz (pI g u 0 0) = gz g := rfl
  rw [hz0] at c1 c3 c4 c5 c6
  have hI2 : gI (pI g u 0 0) b 2 = nI xs.length := by rw [I_pI, if_neg (by rintro ⟨-, k⟩; cases k), h4]
  have hu1 : gK g1 u = 12 := by rw [c2.K (show u < gz (pI g u 0 0) from huz)]; exact hu
  have hb1 : gK g1 b = 12 := by rw [c2.K (show b < gz (pI g u 0 0) from h3)]; exact h1
  have hs1 : gS g1 2 = d + 1 := by rw [c2.S]; exact a1
  have hta : J2_toArray b (pI g u 0 0) = some ((gz g, g1), 1, xs.length) := by
    unfold J2_toArray
    rw [e_wk (by exact h1), R_pI, h5, e_nn, hI2, c1, e_ca, e_b0]
  by_cases h0 : xs.length = 0
  · have hx : xs = [] := List.length_eq_zero_iff.mp h0
    refine ⟨pR (pI g1 u 2 (Int32.ofNat (gN g1 (gz g)))) u 1 (d + 1), d, ?_, ⟨hu1, by rw [nr_lt huz, hur], ?_, ?_, ?_, ?_, ?_, ?_, ?_, ?_⟩, ?_, by rw [z_pR, z_pI, c3]⟩
    · unfold J2_init_2 J1_init J0_init
      rw [e_ob, e_wk hu, e_ob, e_wk (by exact h1), hta, e_ca, e_rk (by rw [c4]), e_wk hu1, c5, if_pos (by rw [h0]; rfl), S_pI, hs1, e_nn, e_b0]
    · rw [z_pR, z_pI, c3]; omega
    · rw [I_pR, I_pI, if_pos ⟨rfl, rfl⟩, c5]; rfl
    · rw [R_pR, if_pos ⟨rfl, rfl⟩]
    · rw [z_pR, z_pI, c3]; omega
    · refine Or.inr ⟨?_, ?_, ?_⟩
      · rw [K_pR, K_pI, c2.K (show d < gz (pI g u 0 0) from a2)]; exact a3
      · rw [nr_lt a2, a5]
      · rw [N_pR, N_pI, c2.N (show d < gz (pI g u 0 0) from a2)]; exact a4
    · rw [h0]; omega
    · rw [N_pR, N_pI, c2.N (show d < gz (pI g u 0 0) from a2)]; show gN g d ≤ _; omega
    · intro i y hy
      rw [hx] at hy
      cases hy
    · exact (hF0.trans c2 (fun _ _ k => k.elim)).trans ((Fr.pI (W := fun q => q = u) rfl).trans (Fr.pR (W := fun q => q = u) rfl) (fun _ _ k => k)) (fun _ _ k => k)
  · have hne : gz g ≠ u := by omega
    refine ⟨pR (pI g1 u 2 (Int32.ofNat (gN g1 (gz g)))) u 1 (gz g + 1), gz g, ?_, ⟨hu1, by rw [nr_lt huz, hur], ?_, ?_, ?_, ?_, ?_, ?_, ?_, ?_⟩, ?_, by rw [z_pR, z_pI, c3]⟩
    · unfold J2_init_2 J1_init J0_init
      rw [e_ob, e_wk hu, e_ob, e_wk (by exact h1), hta, e_ca, e_rk (by rw [c4]), e_wk hu1, c5, if_neg (show ¬ Int32.ofNat xs.length = 0 from nI_ne0 (by omega) (by omega)), e_wk (by rw [K_pI]; exact hb1), if_pos rfl, e_b0]
    · rw [z_pR, z_pI, c3]; omega
    · rw [I_pR, I_pI, if_pos ⟨rfl, rfl⟩, c5]; rfl
    · rw [R_pR, if_pos ⟨rfl, rfl⟩]
    · rw [z_pR, z_pI, c3]; omega
    · refine Or.inl ⟨?_, nr_ge (Nat.le_refl _)⟩
      rw [K_pR, K_pI, c4]
    · rw [N_pR, N_pI, c5]; omega
    · rw [N_pR, N_pI, c5]; omega
    · intro i y hy
      have hi := (List.getElem?_eq_some_iff.mp hy).1
      obtain ⟨k1, k2, k3⟩ := h10 i y hy
      refine ⟨?_, ?_, ?_⟩
      · rw [R_pR, if_neg (by rintro ⟨k, -⟩; exact hne k), R_pI, c6 i (by show i < min (gN g e) _; omega)]
        exact k1
      · rw [z_pR, z_pI, c3]; omega
      · rw [K_pR, K_pI, c2.K (show y < gz (pI g u 0 0) from k2)]; exact k3
    · exact (hF0.trans c2 (fun _ _ k => k.elim)).trans ((Fr.pI (W := fun q => q = u) rfl).trans (Fr.pR (W := fun q => q = u) rfl) (fun _ _ k => k)) (fun _ _ k => k)
/-- set -/
theorem J2_set_l {g : GS} {ρ : Nat → Nat} {r b e i y x : Nat} {xs : List Nat} (h : LiPe g ρ r b e xs) (hy : xs[i]? = some y) (hx : x < gz g) (hs : g_sto (gK g x % 1000) = true) :
    ∃ g', J2_set b (nI i) x g = some (y, g') ∧ LiPe g' ρ r b e (xs.set i x) ∧ Fr (fun q => q = e) g g' ∧ gK g e = 103 ∧ ρ e = r ∧ gz g' = gz g := by
  have hg := J2_get_l ⟨e, h⟩ hy
  have hi := (List.getElem?_eq_some_iff.mp hy).1
  obtain ⟨h1, h2, h3, h4, h5, h6, h7, h8, h9, h10⟩ := h
  have hke : gK g e = 103 ∧ ρ e = r := by
    rcases h7 with k | ⟨k, _, k3⟩
    · exact k
    · omega
  have hbe : b ≠ e := by intro k; rw [k, hke.1] at h1; omega
  refine ⟨pR g e i (x + 1), ?_, ⟨h1, h2, h3, ?_, ?_, h6, h7, ?_, h9, fun j z hz => ?_⟩, Fr.pR rfl, hke.1, hke.2, rfl⟩
  · unfold J2_get at hg
    rw [e_wk h1, h4, J17_checkIndex_l hi (by omega), e_ob] at hg
    have hg' : J2_elementData b (nI i) g = some y := by
      cases hq : J2_elementData b (nI i) g with
      | none => rw [hq] at hg; cases hg
      | some v => rw [hq] at hg; exact hg
    unfold J2_set
    rw [e_wk h1, h4, J17_checkIndex_l hi (by omega), e_ob, hg', e_ob, h5, e_nn, e_wk hke.1, e_inN (by omega) (by omega), hs, e_gd, nI_clamp (by omega)]
  · rw [I_pR, List.length_set]; exact h4
  · rw [R_pR, if_neg (by rintro ⟨k, -⟩; exact hbe k)]; exact h5
  · rw [List.length_set]; exact h8
  · rw [R_pR]
    rw [List.getElem?_set] at hz
    by_cases hj : i = j
    · subst hj
      rw [if_pos rfl, if_pos hi] at hz
      cases hz
      rw [if_pos ⟨rfl, rfl⟩]
      exact ⟨rfl, hx, hs⟩
    · rw [if_neg hj] at hz
      rw [if_neg (by rintro ⟨-, k⟩; exact hj k.symm)]
      exact h10 j z hz
theorem acR_g {g : GS} {a b n sp dp : Nat} (h1 : sp + n ≤ gN g a) (h2 : dp + n ≤ gN g b) (hn : n < 2 ^ 31) (hs : sp < 2 ^ 31) (hd : dp < 2 ^ 31) (h : ∀ i, i < n → gR g a (sp + i) = 0 ∨ ∃ y, gR g a (sp + i) = y + 1 ∧ g_sto (gK g y % 1000) = true) : acR_ g a (nI sp) b (nI dp) (nI n) = true := by
  unfold acR_
  rw [Bool.and_eq_true]
  refine ⟨decide_eq_true ⟨nI_pos hs, nI_pos hd, nI_pos hn, ?_, ?_⟩, ?_⟩
  · rw [nI_clamp hn, nI_clamp hs]; exact h1
  · rw [nI_clamp hn, nI_clamp hd]; exact h2
  · rw [List.all_eq_true]
    intro i hi
    rw [List.mem_range, nI_clamp hn] at hi
    rw [nI_clamp hs]
    unfold eo_
    rcases h i hi with k | ⟨y, k1, k2⟩
    · rw [k]; rfl
    · rw [k1, Nat.add_sub_cancel, k2, Bool.or_true]
/-- remove -/
theorem J2_remove_l {g : GS} {ρ : Nat → Nat} {r b e i y : Nat} {xs : List Nat} (h : LiPe g ρ r b e xs) (hy : xs[i]? = some y) :
    ∃ g', J2_remove b (nI i) g = some (y, g') ∧ LiPe g' ρ r b e (xs.eraseIdx i) ∧ Fr (fun q => q = b ∨ q = e) g g' ∧ gK g e = 103 ∧ ρ e = r ∧ gz g' = gz g := by
  have hi := (List.getElem?_eq_some_iff.mp hy).1
  obtain ⟨h1, h2, h3, h4, h5, h6, h7, h8, h9, h10⟩ := h
  have hke : gK g e = 103 ∧ ρ e = r := by
    rcases h7 with k | ⟨k, _, k3⟩
    · exact k
    · omega
  have hbe : b ≠ e := by intro k; rw [k, hke.1] at h1; omega
  have hk : gK g e % 1000 = 103 := by rw [hke.1]
  have hI2 : gI (pI g b 0 (gI g b 0 + 1)) b 2 = nI xs.length := by rw [I_pI, if_neg (by rintro ⟨-, k⟩; cases k), h4]
  have hpred : nI xs.length - 1 = nI (xs.length - 1) := by
    obtain ⟨n, hn⟩ : ∃ n, xs.length = n + 1 := ⟨xs.length - 1, by omega⟩
    rw [hn, nI_pred]; rfl
  have hlen : (xs.eraseIdx i).length = xs.length - 1 := by rw [List.length_eraseIdx, if_pos hi]
  have main : ∀ g1 : GS, gK g1 = gK g → gN g1 = gN g → (∀ d j, gI g1 d j = if d = b ∧ j = 0 then gI g b 0 + 1 else gI g d j) → (∀ d, d ≠ e → ∀ j, gR g1 d j = gR g d j) → gz g1 = gz g → gS g1 = gS g → (∀ j z, (xs.eraseIdx i)[j]? = some z → gR g1 e j = z + 1) →
      ∃ g', J2_fastRemove_j34 b e (nI (xs.length - 1)) g1 = some g' ∧ LiPe g' ρ r b e (xs.eraseIdx i) ∧ Fr (fun q => q = b ∨ q = e) g g' ∧ gz g' = gz g := by
    intro g1 eK eN eI eR ez eS hel
    refine ⟨pR (pI g1 b 2 (nI (xs.length - 1))) e (xs.length - 1) 0, ?_, ⟨?_, h2, ?_, ?_, ?_, ?_, ?_, ?_, ?_, ?_⟩, ?_, ?_⟩
    · unfold J2_fastRemove_j34
      rw [e_wk (by rw [eK]; exact h1), e_wk (by rw [K_pI, eK]; exact hke.1), e_inN (by rw [N_pI, eN]; omega) (by rw [N_pI, eN]; omega), nI_clamp (by omega)]
    · rw [K_pR, K_pI, eK]; exact h1
    · rw [z_pR, z_pI, ez]; exact h3
    · rw [I_pR, I_pI, if_pos ⟨rfl, rfl⟩, hlen]
    · rw [R_pR, if_neg (by rintro ⟨k, -⟩; exact hbe k), R_pI, eR b hbe]; exact h5
    · rw [z_pR, z_pI, ez]; exact h6
    · rw [K_pR, K_pI, eK, N_pR, N_pI, eN]; exact h7
    · rw [N_pR, N_pI, eN, hlen]; omega
    · rw [N_pR, N_pI, eN]; exact h9
    · intro j z hz
      have hj := (List.getElem?_eq_some_iff.mp hz).1
      rw [hlen] at hj
      have hmem : z < gz g ∧ g_sto (gK g z % 1000) = true := by
        rw [List.getElem?_eraseIdx] at hz
        split at hz
        · exact (h10 _ _ hz).2
        · exact (h10 _ _ hz).2
      refine ⟨?_, ?_, ?_⟩
      · rw [R_pR, if_neg (by rintro ⟨-, k⟩; omega), R_pI, hel j z hz]
      · rw [z_pR, z_pI, ez]; exact hmem.1
      · rw [K_pR, K_pI, eK]; exact hmem.2
    · refine ⟨by rw [z_pR, z_pI, ez]; exact Nat.le_refl _, by rw [S_pR, S_pI, eS], fun q _ => by rw [K_pR, K_pI, eK, N_pR, N_pI, eN]; exact ⟨rfl, rfl⟩, fun q hq hw => ⟨fun j => ?_, fun j => ?_⟩⟩
      · have hqb : q ≠ b := fun k => hw (Or.inl k)
        rw [I_pR, I_pI, if_neg (by rintro ⟨k, -⟩; exact hqb k), eI, if_neg (by rintro ⟨k, -⟩; exact hqb k)]
      · have hqe : q ≠ e := fun k => hw (Or.inr k)
        rw [R_pR, if_neg (by rintro ⟨k, -⟩; exact hqe k), R_pI, eR q hqe]
    · rw [z_pR, z_pI, ez]
  have hgo : ∃ g', J2_fastRemove b e (nI i) g = some g' ∧ LiPe g' ρ r b e (xs.eraseIdx i) ∧ Fr (fun q => q = b ∨ q = e) g g' ∧ gz g' = gz g := by
    unfold J2_fastRemove
    rw [e_wk h1, hI2, hpred]
    by_cases hl : xs.length - 1 ≤ i
    · rw [if_pos (nI_le hl (by omega))]
      refine main _ rfl rfl (fun d j => by rw [I_pI]) (fun _ _ _ => rfl) rfl rfl (fun j z hz => ?_)
      have hj := (List.getElem?_eq_some_iff.mp hz).1
      rw [hlen] at hj
      rw [List.getElem?_eraseIdx, if_pos (by omega)] at hz
      exact (h10 j z hz).1
    · have hs1 : nI i + 1 = nI (i + 1) := nI_1 i
      have hs2 : nI (xs.length - 1) - nI i = nI (xs.length - 1 - i) := by
        rw [i_eq, i_sub (by rw [i_n (by omega), i_n (by omega)]; omega) (by rw [i_n (by omega), i_n (by omega)]; omega), i_n (by omega), i_n (by omega), i_n (by omega)]; omega
      rw [if_neg (by rw [nI_leI (by omega) (by omega)]; exact hl), e_rk (by exact hk), e_wk (by exact hke.1), hs1, hs2, acR_g (by show _ ≤ gN g e; omega) (by show _ ≤ gN g e; omega) (by omega) (by omega) (by omega) ?_, e_gd, nI_clamp (by omega), nI_clamp (by omega), nI_clamp (by omega)]
      · refine main _ rfl rfl (fun d j => by rw [I_cR, I_pI]) (fun d hd j => ?_) rfl rfl (fun j z hz => ?_)
        · rw [R_cR, if_neg (by rintro ⟨k, -⟩; exact hd k)]; rfl
        · have hj := (List.getElem?_eq_some_iff.mp hz).1
          rw [hlen] at hj
          rw [R_cR]
          rw [List.getElem?_eraseIdx] at hz
          by_cases hji : j < i
          · rw [if_pos hji] at hz
            rw [if_neg (by rintro ⟨-, k, -⟩; omega)]
            exact (h10 j z hz).1
          · rw [if_neg hji] at hz
            rw [if_pos ⟨rfl, by omega, by omega⟩]
            have e1 : i + 1 + (j - i) = j + 1 := by omega
            rw [e1]
            exact (h10 (j + 1) z hz).1
      · intro j hj
        have hj' : i + 1 + j < xs.length := by omega
        obtain ⟨k1, k2, k3⟩ := h10 (i + 1 + j) _ (List.getElem?_eq_getElem hj')
        exact Or.inr ⟨_, k1, k3⟩
  obtain ⟨g', m1, m2, m3, m4⟩ := hgo
  refine ⟨g', ?_, m2, m3, hke.1, hke.2, m4⟩
  unfold J2_remove
  rw [e_wk h1, h4, J17_checkIndex_l hi (by omega), e_ob, h5, e_nn, e_rk hk, e_inN (by omega) (by omega), nI_clamp (by omega), (h10 i y hy).1, e_nn, m1]
  rfl
/-- clear -/
theorem J2_clear_l {g : GS} {ρ : Nat → Nat} {r b e : Nat} {xs : List Nat} (h : LiPe g ρ r b e xs) :
    ∃ g', J2_clear b g = some g' ∧ LiPe g' ρ r b e [] ∧ Fr (fun q => q = b ∨ (q = e ∧ gK g e = 103)) g g' ∧ gz g' = gz g := by
  obtain ⟨h1, h2, h3, h4, h5, h6, h7, h8, h9, h10⟩ := h
  have hbe : b ≠ e := by
    intro k
    rcases h7 with ⟨a, -⟩ | ⟨a, -⟩ <;> rw [k, a] at h1 <;> omega
  have hI2 : gI (pI g b 0 (gI g b 0 + 1)) b 2 = nI xs.length := by rw [I_pI, if_neg (by rintro ⟨-, k⟩; cases k), h4]
  obtain ⟨g', m1, m2, m3, m4⟩ : ∃ g', lp_ (fun a : Int32 × GS => J2_clear_b27 e (nI xs.length) a.1 a.2) fu_ (0, pI (pI g b 0 (gI g b 0 + 1)) b 2 0) = some g' ∧ (gK g' = gK g ∧ gN g' = gN g ∧ gS g' = gS g ∧ gz g' = gz g) ∧ gI g' = gI (pI (pI g b 0 (gI g b 0 + 1)) b 2 0) ∧ ∀ d, (d ≠ e ∨ gK g e ≠ 103) → ∀ j, gR g' d j = gR g d j := by
    refine lp_t (I := fun k a => ∃ i, a.1 = nI i ∧ i ≤ xs.length ∧ k = xs.length - i ∧ (gK a.2 = gK g ∧ gN a.2 = gN g ∧ gS a.2 = gS g ∧ gz a.2 = gz g) ∧ gI a.2 = gI (pI (pI g b 0 (gI g b 0 + 1)) b 2 0) ∧ ∀ d, (d ≠ e ∨ gK g e ≠ 103) → ∀ j, gR a.2 d j = gR g d j) ?_ fu_ xs.length _ ⟨0, rfl, Nat.zero_le _, rfl, ⟨rfl, rfl, rfl, rfl⟩, rfl, fun _ _ _ => rfl⟩ (by unfold fu_; omega)
    rintro k ⟨x3, g1⟩ ⟨i, e1, e2, e3, ⟨e4, e5, e6, e7⟩, e8, e9⟩
    cases e1
    by_cases hi : i < xs.length
    · have hke : gK g e = 103 := by
        rcases h7 with ⟨a, -⟩ | ⟨_, _, a⟩
        · exact a
        · omega
      refine Or.inl ⟨(nI i + 1, pR g1 e i 0), k - 1, by omega, ?_, i + 1, by rw [nI_1], by omega, by omega, ⟨e4, e5, e6, e7⟩, e8, fun d hd j => ?_⟩
      · show J2_clear_b27 e (nI xs.length) (nI i) g1 = _
        unfold J2_clear_b27
        rw [if_neg (nI_ge hi (by omega)), e_wk (by rw [e4]; exact hke), e_inN (by rw [e5]; omega) (by rw [e5]; omega), nI_clamp (by omega)]
      · have hde : d ≠ e := by
          rcases hd with k | k
          · exact k
          · exact absurd hke k
        show gR (pR g1 e i 0) d j = _
        rw [R_pR, if_neg (by rintro ⟨k, -⟩; exact hde k), e9 d hd j]
    · refine Or.inr ⟨g1, ?_, ⟨e4, e5, e6, e7⟩, e8, e9⟩
      show J2_clear_b27 e (nI xs.length) (nI i) g1 = _
      unfold J2_clear_b27
      rw [if_pos (nI_le (by omega) (by omega))]
  obtain ⟨c1, c2, c3, c4⟩ := m2
  refine ⟨g', ?_, ⟨by rw [c1]; exact h1, h2, by rw [c4]; exact h3, ?_, ?_, by rw [c4]; exact h6, by rw [c1, c2]; exact h7, Nat.zero_le _, by rw [c2]; exact h9, fun i y hy => by cases hy⟩, ⟨by rw [c4]; exact Nat.le_refl _, c3, fun q _ => by rw [c1, c2]; exact ⟨rfl, rfl⟩, fun q hq hw => ⟨fun j => ?_, fun j => ?_⟩⟩, c4⟩
  · unfold J2_clear
    rw [e_wk h1, R_pI, h5, e_nn, hI2, m1, e_ob]
  · rw [m3, I_pI, if_pos ⟨rfl, rfl⟩]; rfl
  · rw [m4 b (Or.inl hbe)]; exact h5
  · have hqb : q ≠ b := fun k => hw (Or.inl k)
    rw [m3, I_pI, if_neg (by rintro ⟨k, -⟩; exact hqb k), I_pI, if_neg (by rintro ⟨k, -⟩; exact hqb k)]
  · refine m4 q ?_ j
    by_cases hqe : q = e
    · exact Or.inr (fun k => hw (Or.inr ⟨hqe, k⟩))
    · exact Or.inl hqe
/-- Integers: the i-th of ys is f i -/
def IP (g : GS) (ρ : Nat → Nat) (ys : List Nat) (f : Nat → Int32) : Prop := ∀ i y, ys[i]? = some y → gK g y % 1000 = 14 ∧ ρ y = 0 ∧ y < gz g ∧ gI g y 0 = f i
theorem IP.to {W : Nat → Prop} {g g' : GS} {ρ ρ' : Nat → Nat} {ys : List Nat} {f : Nat → Int32} (h : IP g ρ ys f) (hF : Fr W g g') (hA : Ag g ρ ρ') (hW : ∀ q, q < gz g → ρ q = 0 → ¬ W q) : IP g' ρ' ys f := by
  intro i y hy
  obtain ⟨a, b, c, d⟩ := h i y hy
  exact ⟨by rw [hF.K c, a], by rw [hA y c, b], hF.lt c, by rw [hF.I c (hW y c b), d]⟩
theorem IP.re {g : GS} {ρ ρ' : Nat → Nat} {ys : List Nat} {f : Nat → Int32} (h : IP g ρ ys f) (h0 : ∀ q, q < gz g → ρ q = 0 → ρ' q = 0) : IP g ρ' ys f := by
  intro i y hy
  obtain ⟨a, b, c, d⟩ := h i y hy
  exact ⟨a, h0 y c b, c, d⟩
theorem IP.congr {g : GS} {ρ : Nat → Nat} {ys : List Nat} {f f' : Nat → Int32} (h : IP g ρ ys f) (hf : ∀ i, i < ys.length → f' i = f i) : IP g ρ ys f' := by
  intro i y hy
  obtain ⟨a, b, c, d⟩ := h i y hy
  exact ⟨a, b, c, by rw [hf i (List.getElem?_eq_some_iff.mp hy).1, d]⟩
def hs_ (f : Nat → Int32) (n : Nat) (v : Int32) : Bool := (List.range n).any (fun i => decide (f i = v))
theorem hs_t {f : Nat → Int32} {n : Nat} {v : Int32} : hs_ f n v = true ↔ ∃ i, i < n ∧ f i = v := by
  unfold hs_
  rw [List.any_eq_true]
  constructor
  · rintro ⟨i, hi, hv⟩
    exact ⟨i, List.mem_range.mp hi, of_decide_eq_true hv⟩
  · rintro ⟨i, hi, hv⟩
    exact ⟨i, List.mem_range.mpr hi, decide_eq_true hv⟩
theorem hs_f {f : Nat → Int32} {n : Nat} {v : Int32} (h : ∀ i, i < n → f i ≠ v) : hs_ f n v = false := by
  cases hb : hs_ f n v with
  | false => rfl
  | true =>
    obtain ⟨i, hi, hv⟩ := hs_t.mp hb
    exact absurd hv (h i hi)
theorem J19_intValue_l {g : GS} {y : Nat} (h : gK g y % 1000 = 14) : J19_intValue y g = some (gI g y 0) := by
  unfold J19_intValue
  rw [e_rk h]
theorem J2_contains_l {g : GS} {ρ : Nat → Nat} {r b x : Nat} {ys : List Nat} {f : Nat → Int32} {v : Int32} (h : LiP g ρ r b ys) (hI : IP g ρ ys f) (hx : gK g x % 1000 = 14) (hv : gI g x 0 = v) : J2_contains b x g = some (if hs_ f ys.length v = true then 1 else 0) := by
  have hl := h.len
  obtain ⟨e, h1, h2, h3, h4, h5, h6, h7, h8, h9, h10⟩ := h
  have hk : gK g e % 1000 = 103 := by rcases h7 with ⟨k, _⟩ | ⟨k, _⟩ <;> rw [k]
  obtain ⟨o, m1, m2⟩ : ∃ o, lp_ (fun a => J2_indexOfRange_b42 x (nI ys.length) e g a) fu_ 0 = some o ∧ ((∃ i, i < ys.length ∧ f i = v ∧ o = .inl (nI i)) ∨ ((∀ i, i < ys.length → f i ≠ v) ∧ o = .inr ())) := by
    refine lp_t (I := fun k a => ∃ i, a = nI i ∧ i ≤ ys.length ∧ k = ys.length - i ∧ ∀ j, j < i → f j ≠ v) ?_ fu_ ys.length _ ⟨0, rfl, Nat.zero_le _, rfl, fun j hj => by omega⟩ (by unfold fu_; omega)
    rintro k a ⟨i, e1, e2, e3, e4⟩
    subst e1
    by_cases hi : i < ys.length
    · obtain ⟨k1, k2, k3⟩ := h10 i _ (List.getElem?_eq_getElem hi)
      obtain ⟨n1, n2, n3, n4⟩ := hI i _ (List.getElem?_eq_getElem hi)
      have hb : J2_indexOfRange_b42 x (nI ys.length) e g (nI i) = if f i = v then some (.inr (.inl (nI i))) else some (.inl (nI i + 1)) := by
        unfold J2_indexOfRange_b42 J19_equals
        rw [if_neg (nI_ge hi (by omega)), e_rk hk, e_inN (by omega) (by omega), nI_clamp (by omega), k1, e_nn, e_rk hx, e_rk n1, if_neg (by decide), e_rk hx, J19_intValue_l n1, e_ob, n4, hv]
        by_cases hc : f i = v
        · rw [if_pos hc.symm, if_pos hc, e_ob, if_neg (by decide)]
        · rw [if_neg (fun k => hc k.symm), if_neg hc, e_ob, if_pos rfl]
      by_cases hc : f i = v
      · rw [if_pos hc] at hb
        exact Or.inr ⟨_, hb, Or.inl ⟨i, hi, hc, rfl⟩⟩
      · rw [if_neg hc] at hb
        refine Or.inl ⟨_, k - 1, by omega, hb, i + 1, nI_1 i, by omega, by omega, fun j hj => ?_⟩
        by_cases hji : j = i
        · rw [hji]; exact hc
        · exact e4 j (by omega)
    · refine Or.inr ⟨.inr (), ?_, Or.inr ⟨fun j hj => e4 j (by omega), rfl⟩⟩
      unfold J2_indexOfRange_b42
      rw [if_pos (nI_le (by omega) (by omega))]
  unfold J2_contains J2_indexOf J2_indexOfRange
  rw [e_wk h1, e_wk h1, h4, e_wk h1, h5, e_nn]
  rw [m1, e_ob]
  rcases m2 with ⟨i, hi, hf, ho⟩ | ⟨hn, ho⟩
  · rw [ho, if_pos (hs_t.mpr ⟨i, hi, hf⟩)]
    show (if nI i < 0 then some (0 : Int32) else some 1) = some 1
    rw [if_neg (nI_pos (by omega))]
  · rw [ho, hs_f hn]
    rfl
/-- the cache of small Integers -/
def EnC (g : GS) (ρ : Nat → Nat) : Prop := ∃ b, gS g 0 = b + 1 ∧ b < gz g ∧ ρ b = 0 ∧ gK g b % 1000 = 105 ∧ gN g b = 256 ∧ ∀ i, i < 256 → ∃ y, gR g b i = y + 1 ∧ gK g y % 1000 = 14 ∧ ρ y = 0 ∧ y < gz g ∧ gI g y 0 + 128 = nI i
theorem EnC.to {W : Nat → Prop} {g g' : GS} {ρ ρ' : Nat → Nat} (h : EnC g ρ) (hF : Fr W g g') (hA : Ag g ρ ρ') (hW : ∀ q, q < gz g → ρ q = 0 → ¬ W q) : EnC g' ρ' := by
  obtain ⟨b, a1, a2, a3, a4, a5, a6⟩ := h
  refine ⟨b, by rw [hF.S, a1], hF.lt a2, by rw [hA b a2, a3], by rw [hF.K a2, a4], by rw [hF.N a2, a5], fun i hi => ?_⟩
  obtain ⟨y, c1, c2, c3, c4, c5⟩ := a6 i hi
  exact ⟨y, by rw [hF.R a2 (hW b a2 a3), c1], by rw [hF.K c4, c2], by rw [hA y c4, c3], hF.lt c4, by rw [hF.I c4 (hW y c4 c3), c5]⟩
theorem J19_valueOf_l {g : GS} {ρ : Nat → Nat} (hC : EnC g ρ) (v : Int32) : ∃ y g' dc ds, J19_valueOf v g = some ((y, g'), dc, ds) ∧ Fr no_ g g' ∧ gK g' y % 1000 = 14 ∧ nr ρ g 0 y = 0 ∧ y < gz g' ∧ gI g' y 0 = v ∧ dc ≤ 1 ∧ ds ≤ 1 ∧ gz g' = gz g + dc := by
  have hj : ∃ g', J19_valueOf_j23 v g = some ((gz g, g'), 1, 1) ∧ Fr no_ g g' ∧ gK g' (gz g) % 1000 = 14 ∧ gI g' (gz g) 0 = v ∧ gz g' = gz g + 1 := by
    refine ⟨pI (nw_ g 14 1) (gz g) 0 v, ?_, ?_, ?_, ?_, rfl⟩
    · unfold J19_valueOf_j23 J19_init J18_init
      rw [e_al, e_ob, e_wk (by rw [K_nw, if_pos rfl]), e_ob]
      rfl
    · exact (Fr.nw (W := no_)).trans (Fr.pI (W := fun q => q = gz g) rfl) (fun q hq k => by omega)
    · rw [K_pI, K_nw, if_pos rfl]
    · rw [I_pI, if_pos ⟨rfl, rfl⟩]
  obtain ⟨g', j1, j2, j3, j4, j5⟩ := hj
  unfold J19_valueOf
  by_cases h1 : v < (-128)
  · rw [if_pos h1]
    exact ⟨gz g, g', 1, 1, j1, j2, j3, nr_ge (Nat.le_refl _), by omega, j4, by omega, by omega, j5⟩
  · rw [if_neg h1]
    by_cases h2 : 127 < v
    · rw [if_pos h2]
      exact ⟨gz g, g', 1, 1, j1, j2, j3, nr_ge (Nat.le_refl _), by omega, j4, by omega, by omega, j5⟩
    · rw [if_neg h2]
      obtain ⟨b, a1, a2, a3, a4, a5, a6⟩ := hC
      have hr : -128 ≤ v.toInt ∧ v.toInt ≤ 127 := by
        rw [i_lt] at h1 h2
        have e1 : ((-128 : Int32)).toInt = -128 := by decide
        have e2 : ((127 : Int32)).toInt = 127 := by decide
        omega
      have e3 : ((128 : Int32)).toInt = 128 := by decide
      have hs : (v + 128).toInt = v.toInt + 128 := by rw [i_add (by omega) (by omega), e3]
      obtain ⟨n, n1, n2, n3⟩ := i_nat (x := v + 128) (by omega)
      obtain ⟨y, c1, c2, c3, c4, c5⟩ := a6 n (by omega)
      refine ⟨y, g, 0, 0, ?_, Fr.rf, c2, by rw [nr_lt c4, c3], c4, ?_, by omega, by omega, by omega⟩
      · rw [a1, e_nn, e_rk a4, n1, e_inN (by omega) (by omega), nI_clamp (by omega), c1, e_nn]
      · rw [← n1] at c5
        exact (Int32.add_left_inj 128).mp c5
end
section
/-! LAWS: settings (own work) -/
set_option maxRecDepth 100000
theorem nr_nr {ρ : Nat → Nat} {g g1 : GS} {r : Nat} (h : gz g ≤ gz g1) : nr (nr ρ g r) g1 r = nr ρ g r := by
  funext q
  unfold nr
  by_cases h1 : gz g1 ≤ q
  · rw [if_pos h1, if_pos (by omega)]
  · rw [if_neg h1]
/-- the settings x, all of whose cells have role r: the row S (as the model has it: hole, lag, wrist, eye, behind, hand, marks), m marks -/
def SetP (g : GS) (ρ : Nat → Nat) (r x m : Nat) (S : Nat → Int32) : Prop :=
  gK g x = 3 ∧ ρ x = r ∧ x < gz g ∧ (gI g x 0 = S 0 ∧ gI g x 1 = S 1 ∧ gI g x 2 = S 2 ∧ gI g x 3 = S 3 ∧ gI g x 4 = S 5 ∧ gI g x 5 = S 4) ∧ ∃ l ys, gR g x 6 = l + 1 ∧ LiP g ρ r l ys ∧ ys.length = m ∧ IP g ρ ys (fun i => S (6 + i))
theorem SetP.to {W : Nat → Prop} {g g' : GS} {ρ ρ' : Nat → Nat} {r x m : Nat} {S : Nat → Int32} (h : SetP g ρ r x m S) (hF : Fr W g g') (hA : Ag g ρ ρ') (hW : ∀ q, q < gz g → ρ q = r ∨ ρ q = 0 → ¬ W q) : SetP g' ρ' r x m S := by
  obtain ⟨h1, h2, h3, ⟨a0, a1, a2, a3, a4, a5⟩, l, ys, h5, h6, h7, h8⟩ := h
  have hx := hW x h3 (Or.inl h2)
  exact ⟨by rw [hF.K h3, h1], by rw [hA x h3, h2], hF.lt h3, ⟨by rw [hF.I h3 hx, a0], by rw [hF.I h3 hx, a1], by rw [hF.I h3 hx, a2], by rw [hF.I h3 hx, a3], by rw [hF.I h3 hx, a4], by rw [hF.I h3 hx, a5]⟩, l, ys, by rw [hF.R h3 hx, h5], h6.to hF hA hW, h7, h8.to hF hA (fun q hq k => hW q hq (Or.inr k))⟩
theorem SetP.re {g : GS} {ρ ρ' : Nat → Nat} {r r' x m : Nat} {S : Nat → Int32} (h : SetP g ρ r x m S) (h1 : ∀ q, q < gz g → ρ q = r → ρ' q = r') (h0 : ∀ q, q < gz g → ρ q = 0 → ρ' q = 0) : SetP g ρ' r' x m S := by
  obtain ⟨k1, k2, k3, k4, l, ys, h5, h6, h7, h8⟩ := h
  exact ⟨k1, h1 x k3 k2, k3, k4, l, ys, h5, h6.re h1 h0, h7, h8.re h0⟩
theorem SetP.congr {g : GS} {ρ : Nat → Nat} {r x m : Nat} {S S' : Nat → Int32} (h : SetP g ρ r x m S) (hS : ∀ i, i < 6 + m → S' i = S i) : SetP g ρ r x m S' := by
  obtain ⟨k1, k2, k3, ⟨a0, a1, a2, a3, a4, a5⟩, l, ys, h5, h6, h7, h8⟩ := h
  exact ⟨k1, k2, k3, ⟨by rw [hS 0 (by omega), a0], by rw [hS 1 (by omega), a1], by rw [hS 2 (by omega), a2], by rw [hS 3 (by omega), a3], by rw [hS 5 (by omega), a4], by rw [hS 4 (by omega), a5]⟩, l, ys, h5, h6, h7, h8.congr (fun i hi => hS (6 + i) (by omega))⟩
/-- a field is set -/
theorem SetP.put {g : GS} {ρ : Nat → Nat} {r x m : Nat} {S : Nat → Int32} (h : SetP g ρ r x m S) {k k' : Nat} {v : Int32} (hk : (k = 0 ∧ k' = 0) ∨ (k = 1 ∧ k' = 1) ∨ (k = 2 ∧ k' = 2) ∨ (k = 3 ∧ k' = 3) ∨ (k = 4 ∧ k' = 5) ∨ (k = 5 ∧ k' = 4)) : SetP (pI g x k v) ρ r x m (fun i => if i = k' then v else S i) := by
  obtain ⟨k1, k2, k3, ⟨a0, a1, a2, a3, a4, a5⟩, l, ys, h5, h6, h7, h8⟩ := h
  have hF : Fr (fun q => q = x) g (pI g x k v) := Fr.pI rfl
  refine ⟨k1, k2, k3, ?_, l, ys, h5, ?_, h7, ?_⟩
  · rcases hk with ⟨rfl, rfl⟩ | ⟨rfl, rfl⟩ | ⟨rfl, rfl⟩ | ⟨rfl, rfl⟩ | ⟨rfl, rfl⟩ | ⟨rfl, rfl⟩ <;> simp [I_pI, a0, a1, a2, a3, a4, a5]
  · obtain ⟨e, c1, c2, c3, c4, c5, c6, c7, c8⟩ := h6
    refine ⟨e, c1, c2, c3, ?_, c5, c6, c7, c8⟩
    rw [I_pI, if_neg (by rintro ⟨q, -⟩; rw [q, k1] at c1; omega), c4]
  · intro i y hy
    obtain ⟨c1, c2, c3, c4⟩ := h8 i y hy
    refine ⟨c1, c2, c3, ?_⟩
    show gI (pI g x k v) y 0 = if 6 + i = k' then v else S (6 + i)
    rw [I_pI, if_neg (by rintro ⟨q, -⟩; rw [q, k1] at c1; omega), c4, if_neg (by omega)]
theorem X3_init_l {g : GS} {ρ : Nat → Nat} (hE : EnE g ρ) (r : Nat) : ∃ g' e, X3_init (gz g) (nw_ g 3 7) = some (((), g'), 1, 3) ∧ gK g' (gz g) = 3 ∧ (gI g' (gz g) 0 = 3 ∧ gI g' (gz g) 1 = 2 ∧ gI g' (gz g) 2 = 20 ∧ gI g' (gz g) 3 = 0 ∧ gI g' (gz g) 4 = -1 ∧ gI g' (gz g) 5 = 0) ∧ gR g' (gz g) 6 = gz g + 1 + 1 ∧
    LiPe g' (nr ρ g r) r (gz g + 1) e [] ∧ gN g' e = 0 ∧ gK g' e = 1103 ∧ Fr no_ g g' ∧ gz g' = gz g + 2 := by
  obtain ⟨g3, hg3⟩ : ∃ g3, g3 = pI (pI (pI (pI (nw_ g 3 7) (gz g) 0 3) (gz g) 1 2) (gz g) 2 20) (gz g) 4 (-1) := ⟨_, rfl⟩
  have hz : gz g3 = gz g + 1 := by rw [hg3]; rfl
  have hF : Fr no_ g g3 := by
    rw [hg3]
    refine (Fr.nw (W := no_)).trans ((((Fr.pI (W := fun q => q = gz g) rfl).trans (Fr.pI (W := fun q => q = gz g) rfl) (fun _ _ k => k)).trans (Fr.pI (W := fun q => q = gz g) rfl) (fun _ _ k => k)).trans (Fr.pI (W := fun q => q = gz g) rfl) (fun _ _ k => k)) (fun q hq k => ?_)
    omega
  obtain ⟨g', e, c1, c2, c3, c4, c5, c6⟩ := J2_init_l (hE.to hF (nr_ag (r := r))) r
  rw [nr_nr (by omega)] at c2
  have hK3 : gK g3 (gz g) = 3 := by rw [hg3, K_pI, K_pI, K_pI, K_pI, K_nw, if_pos rfl]
  have hK' : gK g' (gz g) = 3 := by rw [c3.K (by omega)]; exact hK3
  have hI : ∀ i, gI g' (gz g) i = gI g3 (gz g) i := fun i => c3.I (by omega) (fun k => k) i
  have hL2 : LiPe (pR g' (gz g) 6 (gz g + 1 + 1)) (nr ρ g r) r (gz g + 1) e [] := by
    rw [hz] at c2
    obtain ⟨k1, k2, k3, k4, k5, k6, k7, k8, k9, k10⟩ := c2
    refine ⟨k1, k2, k3, k4, ?_, k6, k7, k8, k9, fun i y hy => by cases hy⟩
    rw [R_pR, if_neg (by rintro ⟨q, -⟩; omega), k5]
  refine ⟨pR g' (gz g) 6 (gz g + 1 + 1), e, ?_, ?_, ?_, ?_, hL2, c5, c6, ?_, ?_⟩
  · unfold X3_init
    rw [e_wk (by rw [K_nw, if_pos rfl]), ← hg3, e_al, c1, e_ob, e_wk hK', hz]
    rfl
  · exact hK'
  · simp only [I_pR, hI, hg3, I_pI, I_nw]
    simp
  · rw [R_pR, if_pos ⟨rfl, rfl⟩]
  · exact (hF.trans c3 (fun _ _ k => k)).trans (Fr.pR (W := fun q => q = gz g) rfl) (fun q hq k => by omega)
  · rw [z_pR, c4, hz]
theorem X3_copy_l {g : GS} {ρ : Nat → Nat} {rs x m : Nat} {S : Nat → Int32} (hE : EnE g ρ) (h : SetP g ρ rs x m S) (hm : m ≤ 6) (r : Nat) :
    ∃ g' dc ds, X3_copy x g = some ((gz g, g'), dc, ds) ∧ SetP g' (nr ρ g r) r (gz g) m S ∧ Fr no_ g g' ∧ gz g < gz g' ∧ dc ≤ 8 ∧ ds ≤ 90 := by
  obtain ⟨g1, e1, a1, a2, a3, a4, a5, a6, a6k, a7, a8⟩ := X3_init_l hE r
  have h0 := h
  obtain ⟨h1, h2, h3, ⟨b0, b1, b2, b3, b4, b5⟩, l, ys, h5, h6, h7, h8⟩ := h
  have hxne : x ≠ gz g := by omega
  obtain ⟨g2, hg2⟩ : ∃ g2, g2 = pI (pI (pI (pI (pI (pI g1 (gz g) 0 (S 0)) (gz g) 1 (S 1)) (gz g) 2 (S 2)) (gz g) 3 (S 3)) (gz g) 4 (S 5)) (gz g) 5 (S 4) := ⟨_, rfl⟩
  have hF2 : Fr (fun q => q = gz g) g1 g2 := by
    rw [hg2]
    exact (((((Fr.pI (W := fun q => q = gz g) rfl).trans (Fr.pI (W := fun q => q = gz g) rfl) (fun _ _ k => k)).trans (Fr.pI (W := fun q => q = gz g) rfl) (fun _ _ k => k)).trans (Fr.pI (W := fun q => q = gz g) rfl) (fun _ _ k => k)).trans (Fr.pI (W := fun q => q = gz g) rfl) (fun _ _ k => k)).trans (Fr.pI (W := fun q => q = gz g) rfl) (fun _ _ k => k)
  have hz2 : gz g2 = gz g + 2 := by rw [hg2]; exact a8
  have hF02 : Fr no_ g g2 := a7.trans hF2 (fun q hq k => by omega)
  have hI2 : gI g2 (gz g) 0 = S 0 ∧ gI g2 (gz g) 1 = S 1 ∧ gI g2 (gz g) 2 = S 2 ∧ gI g2 (gz g) 3 = S 3 ∧ gI g2 (gz g) 4 = S 5 ∧ gI g2 (gz g) 5 = S 4 := by
    rw [hg2]
    simp [I_pI]
  have hK2 : gK g2 (gz g) = 3 := by rw [hF2.K (by omega)]; exact a2
  have hR2 : gR g2 (gz g) 6 = gz g + 1 + 1 := by rw [hg2]; exact a4
  have hL2 : LiPe g2 (nr ρ g r) r (gz g + 1) e1 [] := by
    obtain ⟨k1, k2, k3, k4, k5, k6, k7, k8, k9, k10⟩ := a5
    have hq : ¬ (gz g + 1 = gz g) := by omega
    exact ⟨by rw [hF2.K k3]; exact k1, k2, hF2.lt k3, by rw [hF2.I k3 hq]; exact k4, by rw [hF2.R k3 hq]; exact k5, hF2.lt k6, by rw [hF2.K k6, hF2.N k6]; exact k7, by rw [hF2.N k6]; exact k8, by rw [hF2.N k6]; exact k9, fun i y hy => by cases hy⟩
  have hN2 : gN g2 e1 = 0 := by rw [hF2.N a5.2.2.2.2.2.1]; exact a6
  have key : ∃ e dc ds, la_ (fun a : Int32 × GS => X3_copy_b58 x (gz g) a.1 a.2) fu_ (0, g2) = some (e, dc, ds) ∧ (Fr no_ g e ∧ gz g < gz e ∧ (gK e (gz g) = 3 ∧ (∀ i, gI e (gz g) i = gI g2 (gz g) i) ∧ gR e (gz g) 6 = gz g + 1 + 1) ∧ ∃ ea, LiPe e (nr ρ g r) r (gz g + 1) ea ys ∧ dc + 0 ≤ m ∧ ds + 0 ≤ 4 * gN e ea ∧ gN e ea ≤ 20) := by
    refine la_t (I := fun k a c s => ∃ i ea, a.1 = nI i ∧ i ≤ m ∧ k = m - i ∧ Fr no_ g a.2 ∧ gz g + 2 ≤ gz a.2 ∧ (gK a.2 (gz g) = 3 ∧ (∀ i, gI a.2 (gz g) i = gI g2 (gz g) i) ∧ gR a.2 (gz g) 6 = gz g + 1 + 1) ∧ LiPe a.2 (nr ρ g r) r (gz g + 1) ea (ys.take i) ∧ c ≤ i ∧ s ≤ 4 * gN a.2 ea ∧ gN a.2 ea ≤ 20 ∧ (gK a.2 ea = 103 → gz g ≤ ea))
      (Q := fun e dc ds => Fr no_ g e ∧ gz g < gz e ∧ (gK e (gz g) = 3 ∧ (∀ i, gI e (gz g) i = gI g2 (gz g) i) ∧ gR e (gz g) 6 = gz g + 1 + 1) ∧ ∃ ea, LiPe e (nr ρ g r) r (gz g + 1) ea ys ∧ dc ≤ m ∧ ds ≤ 4 * gN e ea ∧ gN e ea ≤ 20)
      ?_ fu_ m (0, g2) 0 0 ⟨0, e1, rfl, Nat.zero_le _, rfl, hF02, by show gz g + 2 ≤ gz g2; omega, ⟨hK2, fun _ => rfl, hR2⟩, by rw [List.take_zero]; exact hL2, Nat.le_refl _, Nat.zero_le _, by show gN g2 e1 ≤ 20; omega, fun k => ?_⟩ (by unfold fu_; omega)
    · rintro k ⟨x2, g3⟩ c s ⟨i, ea, e0, i1, i2, i3, i4, ⟨i5, i6, i7⟩, i8, i9, i10, i11, i12⟩
      simp only at e0 i3 i4 i5 i6 i7 i8 i10 i11 i12 ⊢
      subst e0
      have hs3 : SetP g3 (nr ρ g r) rs x m S := h0.to i3 nr_ag (fun _ _ _ k => k)
      have s1 := hs3.1
      have hl3 : LiP g3 (nr ρ g r) rs l ys := h6.to i3 nr_ag (fun _ _ _ k => k)
      have hr3 : gR g3 x 6 = l + 1 := by rw [i3.R h3 (fun k => k), h5]
      by_cases hi : i < m
      · have hi' : i < ys.length := by omega
        have hy := List.getElem?_eq_getElem hi'
        obtain ⟨p1, p2, p3, p4⟩ := (h8.to i3 (nr_ag (r := r)) (fun _ _ _ k => k)) i _ hy
        obtain ⟨q1, q2, q3⟩ := hl3.at hy
        have hlt : (ys.take i).length = i := by rw [List.length_take]; omega
        obtain ⟨g4, e4, dc, ds, m1, m2, m3, m4, m5, m6, m7, m8, m9⟩ := J2_add_l i8 (by
          obtain ⟨d, hd⟩ := hE.s1
          exact ⟨d, by rw [i3.S, hd]⟩) (by rw [hlt]; omega) q1 q2
        rw [nr_nr (by omega)] at m2
        rw [hlt] at m6
        have hne : ∀ q, q ≤ gz g → ¬ (q = gz g + 1 ∨ (q = ea ∧ gK g3 ea = 103)) := by
          rintro q hq (k | ⟨k, k2⟩)
          · omega
          · have k3 := i12 k2
            have k4 : ea = gz g := by omega
            rw [k4, i5] at k2
            omega
        refine Or.inl ⟨(nI i + 1, g4), dc, ds, k - 1, by omega, ?_, i + 1, e4, nI_1 i, by omega, by omega, i3.trans m3 (fun q hq k => (hne q (by omega) k).elim), by show gz g + 2 ≤ gz g4; omega, ⟨?_, fun j => ?_, ?_⟩, ?_, by omega, by show ds + s ≤ 4 * gN g4 e4; omega, by show gN g4 e4 ≤ 20; omega, fun k => ?_⟩
        · unfold X3_copy_b58
          rw [e_wk s1, hr3, e_nn, e_wk hl3.K, J2_size_l hl3, e_ob, h7, if_neg (nI_ge hi (by omega)), e_wk i5, i7, e_nn, e_nn, e_wk hl3.K, J2_get_l hl3 hy, e_ob, e_rk p1, e_wk i8.1, m1, e_ca, e_bp, Nat.zero_add, Nat.zero_add]
        · show gK g4 (gz g) = 3
          rw [m3.K (by omega), i5]
        · show gI g4 (gz g) j = _
          rw [m3.I (by omega) (hne _ (Nat.le_refl _)), i6]
        · show gR g4 (gz g) 6 = _
          rw [m3.R (by omega) (hne _ (Nat.le_refl _)), i7]
        · rw [← List.take_append_getElem hi']
          exact m2
        · rcases m9 with k9 | ⟨k9, -⟩
          · rw [k9] at k ⊢
            rw [m3.K i8.2.2.2.2.2.1] at k
            exact i12 k
          · omega
      · have him : i = m := by omega
        refine Or.inr ⟨g3, 0, 0, ?_, i3, by show gz g < gz g3; omega, ⟨i5, i6, i7⟩, ea, ?_, by omega, by omega, i11⟩
        · unfold X3_copy_b58
          rw [e_wk s1, hr3, e_nn, e_wk hl3.K, J2_size_l hl3, e_ob, h7, if_pos (nI_le (by omega) (by omega))]
        · rw [him, ← h7, List.take_length] at i8
          exact i8
    · exfalso
      have k' : gK g2 e1 = 103 := k
      rw [hF2.K a5.2.2.2.2.2.1, a6k] at k'
      omega
  obtain ⟨ge, dc, ds, l1, l2, l3, ⟨l4, l5, l6⟩, ea, l7, l8, l9, l10⟩ := key
  refine ⟨ge, dc + 1 + 1, ds + 3 + 7, ?_, ⟨l4, nr_ge (Nat.le_refl _), l3, ?_, gz g + 1, ys, l6, ⟨ea, l7⟩, h7, h8.to l2 nr_ag (fun _ _ _ k => k)⟩, l2, l3, by omega, by omega⟩
  · unfold X3_copy
    rw [e_al, a1, e_ca, e_wk (by rw [a7.K h3]; exact h1), e_wk a2]
    have hg : ∀ k, gI g1 x k = gI g x k := fun k => a7.I h3 (fun q => q) k
    have hq : ∀ (gg : GS) (k j : Nat) (v : Int32), gI (pI gg (gz g) k v) x j = gI gg x j := fun gg k j v => by rw [I_pI, if_neg (by rintro ⟨q, -⟩; exact hxne q)]
    simp only [hq, hg, b0, b1, b2, b3, b4, b5]
    rw [← hg2, l1, e_oa, e_bp, e_bp, e_bp]
    simp only [Nat.zero_add]
  · rw [l5, l5, l5, l5, l5, l5]
    exact hI2
end
section
/-! LAWS: the scene: where she is, whose face it is (own work) -/
set_option maxRecDepth 100000
/-- from σ to σ': no field but those of LI, no array but those of LA has changed -/
def Mf (LI LA : List Nat) (σ σ' : MS) : Prop := (∀ k, k ∉ LI → m_I σ' k = m_I σ k) ∧ ∀ j, j ∉ LA → ∀ i, m_A σ' j i = m_A σ j i
theorem get_ex {α : Type} {xs : List α} {k : Nat} (h : k < xs.length) : ∃ y, xs[k]? = some y := ⟨xs[k], List.getElem?_eq_getElem h⟩
theorem Mf.rf {LI LA : List Nat} {σ : MS} : Mf LI LA σ σ := ⟨fun _ _ => rfl, fun _ _ _ => rfl⟩
theorem Mf.I {LI LA : List Nat} {σ σ' : MS} (h : Mf LI LA σ σ') {k : Nat} (hk : k ∉ LI) : m_I σ' k = m_I σ k := h.1 k hk
theorem Mf.A {LI LA : List Nat} {σ σ' : MS} (h : Mf LI LA σ σ') {j : Nat} (hj : j ∉ LA) (i : Nat) : m_A σ' j i = m_A σ j i := h.2 j hj i
theorem Mf.Af {LI LA : List Nat} {σ σ' : MS} (h : Mf LI LA σ σ') {j : Nat} (hj : j ∉ LA) : m_A σ' j = m_A σ j := funext (h.2 j hj)
theorem Mf.trans {LI LA LI' LA' : List Nat} {σ σ1 σ2 : MS} (h1 : Mf LI LA σ σ1) (h2 : Mf LI' LA' σ1 σ2) (hI : ∀ k, k ∈ LI' → k ∈ LI) (hA : ∀ k, k ∈ LA' → k ∈ LA) : Mf LI LA σ σ2 :=
  ⟨fun k hk => (h2.I (fun q => hk (hI k q))).trans (h1.I hk), fun j hj i => (h2.A (fun q => hj (hA j q)) i).trans (h1.A hj i)⟩
theorem Mf.mono {LI LA LI' LA' : List Nat} {σ σ' : MS} (h : Mf LI' LA' σ σ') (hI : ∀ k, k ∈ LI' → k ∈ LI) (hA : ∀ k, k ∈ LA' → k ∈ LA) : Mf LI LA σ σ' := Mf.rf.trans h hI hA
theorem Mf.sI {LI LA : List Nat} {σ : MS} {k : Nat} {v : Int32} (h : k ∈ LI) : Mf LI LA σ (s_I σ k v) := by
  refine ⟨fun i hi => ?_, fun _ _ _ => rfl⟩
  rw [rI_sI, if_neg]
  rintro rfl
  exact hi h
theorem Mf.sL {LI LA : List Nat} {σ : MS} {v : Int64} : Mf LI LA σ (s_L σ v) := ⟨fun _ _ => rfl, fun _ _ _ => rfl⟩
theorem Mf.sA {LI LA : List Nat} {σ : MS} {j k : Nat} {v : Int32} (h : j ∈ LA) : Mf LI LA σ (s_A σ j k v) := by
  refine ⟨fun _ _ => rfl, fun a ha i => ?_⟩
  rw [rA_sA, if_neg]
  rintro ⟨rfl, -⟩
  exact ha h
/-! pairs of numbers in a list -/
def PrP (g : GS) (ρ : Nat → Nat) (xs : List Nat) (f h : Nat → Int32) : Prop := ∀ i y, xs[i]? = some y → gK g y = 100 ∧ gN g y = 2 ∧ ρ y = 0 ∧ gI g y 0 = f i ∧ gI g y 1 = h i ∧ y < gz g
theorem PrP.to {W : Nat → Prop} {g g' : GS} {ρ ρ' : Nat → Nat} {xs : List Nat} {f h : Nat → Int32} (hp : PrP g ρ xs f h) (hF : Fr W g g') (hA : Ag g ρ ρ') (hW : ∀ q, q < gz g → ρ q = 0 → ¬ W q) : PrP g' ρ' xs f h := by
  intro i y hy
  obtain ⟨a, b, c, d, e, k⟩ := hp i y hy
  exact ⟨by rw [hF.K k, a], by rw [hF.N k, b], by rw [hA y k, c], by rw [hF.I k (hW y k c), d], by rw [hF.I k (hW y k c), e], hF.lt k⟩
theorem PrP.re {g : GS} {ρ ρ' : Nat → Nat} {xs : List Nat} {f h : Nat → Int32} (hp : PrP g ρ xs f h) (h0 : ∀ q, q < gz g → ρ q = 0 → ρ' q = 0) : PrP g ρ' xs f h := by
  intro i y hy
  obtain ⟨a, b, c, d, e, k⟩ := hp i y hy
  exact ⟨a, b, h0 y k c, d, e, k⟩
theorem PrP.congr {g : GS} {ρ : Nat → Nat} {xs : List Nat} {f h f' h' : Nat → Int32} (hp : PrP g ρ xs f h) (hf : ∀ i, i < xs.length → f' i = f i) (hh : ∀ i, i < xs.length → h' i = h i) : PrP g ρ xs f' h' := by
  intro i y hy
  obtain ⟨a, b, c, d, e, k⟩ := hp i y hy
  have hi := (List.getElem?_eq_some_iff.mp hy).1
  exact ⟨a, b, c, by rw [hf i hi, d], by rw [hh i hi, e], k⟩
/-- a list of pairs behind the field fld of the object o -/
def PlP (g : GS) (ρ : Nat → Nat) (r o fld n : Nat) (f h : Nat → Int32) : Prop := ∃ l xs, gR g o fld = l + 1 ∧ LiP g ρ r l xs ∧ xs.length = n ∧ PrP g ρ xs f h
theorem PlP.to {W : Nat → Prop} {g g' : GS} {ρ ρ' : Nat → Nat} {r o fld n : Nat} {f h : Nat → Int32} (hp : PlP g ρ r o fld n f h) (ho : o < gz g) (hoW : ¬ W o) (hF : Fr W g g') (hA : Ag g ρ ρ') (hW : ∀ q, q < gz g → ρ q = r ∨ ρ q = 0 → ¬ W q) : PlP g' ρ' r o fld n f h := by
  obtain ⟨l, xs, a, b, c, d⟩ := hp
  exact ⟨l, xs, by rw [hF.R ho hoW, a], b.to hF hA hW, c, d.to hF hA (fun q hq k => hW q hq (Or.inr k))⟩
/-! where she is -/
def hr_ (G L : Nat → Int32) : Nat → Nat → Int32 → Int32 → Int32
  | 0, _, a, _ => a
  | n + 1, k, a, t => if t < L k then a + ((G k - a) * t) / L k else hr_ G L n (k + 1) (G k) (t - L k)
def sm_ (L : Nat → Int32) : Nat → Int32
  | 0 => 0
  | n + 1 => sm_ L n + L n
def mvN (G L : Nat → Int32) (n : Nat) : Prop := ∀ i, i < n → (12 ≤ (G i).toInt ∧ (G i).toInt ≤ 480) ∧ 1 ≤ (L i).toInt ∧ (L i).toInt ≤ 99
theorem tdiv_rg {p t l : Int} (h0 : 0 ≤ t) (h1 : t ≤ l) (hl : 0 < l) : (0 ≤ p → 0 ≤ (p * t).tdiv l ∧ (p * t).tdiv l ≤ p) ∧ (p ≤ 0 → p ≤ (p * t).tdiv l ∧ (p * t).tdiv l ≤ 0) := by
  have pos : ∀ q : Int, 0 ≤ q → 0 ≤ (q * t).tdiv l ∧ (q * t).tdiv l ≤ q := by
    intro q hq
    have h2 : 0 ≤ q * t := Int.mul_nonneg hq h0
    rw [Int.tdiv_eq_ediv_of_nonneg h2]
    refine ⟨Int.ediv_nonneg h2 (by omega), ?_⟩
    have h3 : q * t ≤ q * l := Int.mul_le_mul_of_nonneg_left h1 hq
    calc (q * t) / l ≤ (q * l) / l := Int.ediv_le_ediv hl h3
      _ = q := Int.mul_ediv_cancel q (by omega)
  refine ⟨pos p, fun hp => ?_⟩
  have h2 := pos (-p) (by omega)
  have h3 : (-p * t).tdiv l = -((p * t).tdiv l) := by rw [Int.neg_mul, Int.neg_tdiv]
  rw [h3] at h2
  omega
theorem mul_rg {a b A B : Int} (ha : -A ≤ a) (ha' : a ≤ A) (hb : 0 ≤ b) (hb' : b ≤ B) (hA : 0 ≤ A) : -(A * B) ≤ a * b ∧ a * b ≤ A * B := by
  have h1 : A * b ≤ A * B := Int.mul_le_mul_of_nonneg_left hb' hA
  have h2 : a * b ≤ A * b := Int.mul_le_mul_of_nonneg_right ha' hb
  have h3 : -A * b ≤ a * b := Int.mul_le_mul_of_nonneg_right ha hb
  rw [Int.neg_mul] at h3
  omega
/-- a step of the way: its place lies between the two ends -/
theorem hr_step {G a t L : Int32} (hG : 12 ≤ G.toInt ∧ G.toInt ≤ 480) (ha : 12 ≤ a.toInt ∧ a.toInt ≤ 480) (h0 : 0 ≤ t.toInt) (h1 : t.toInt ≤ L.toInt) (hL : 1 ≤ L.toInt ∧ L.toInt ≤ 99) :
    (a + ((G - a) * t) / L).toInt = a.toInt + ((G.toInt - a.toInt) * t.toInt).tdiv L.toInt ∧ 12 ≤ (a + ((G - a) * t) / L).toInt ∧ (a + ((G - a) * t) / L).toInt ≤ 480 := by
  have e1 : (G - a).toInt = G.toInt - a.toInt := i_sub (by omega) (by omega)
  have hm := mul_rg (a := G.toInt - a.toInt) (b := t.toInt) (A := 468) (B := 99) (by omega) (by omega) h0 (by omega) (by omega)
  have e2 : ((G - a) * t).toInt = (G.toInt - a.toInt) * t.toInt := by rw [i_mul (by rw [e1]; omega) (by rw [e1]; omega), e1]
  have hne : L ≠ -1 := by
    intro h
    rw [h] at hL
    have : ((-1 : Int32)).toInt = -1 := by decide
    omega
  have e3 : (((G - a) * t) / L).toInt = ((G.toInt - a.toInt) * t.toInt).tdiv L.toInt := by rw [i_div hne, e2]
  have hd := tdiv_rg (p := G.toInt - a.toInt) h0 h1 (by omega)
  have hb : 12 - a.toInt ≤ ((G.toInt - a.toInt) * t.toInt).tdiv L.toInt ∧ ((G.toInt - a.toInt) * t.toInt).tdiv L.toInt ≤ 480 - a.toInt := by
    rcases Int.le_total 0 (G.toInt - a.toInt) with h | h
    · have := hd.1 h; omega
    · have := hd.2 h; omega
  have e4 : (a + ((G - a) * t) / L).toInt = a.toInt + ((G.toInt - a.toInt) * t.toInt).tdiv L.toInt := by rw [i_add (by rw [e3]; omega) (by rw [e3]; omega), e3]
  exact ⟨e4, by omega, by omega⟩
theorem hr_rg {G L : Nat → Int32} : ∀ (n k : Nat) (a t : Int32), (∀ i, k ≤ i → i < k + n → (12 ≤ (G i).toInt ∧ (G i).toInt ≤ 480) ∧ 1 ≤ (L i).toInt ∧ (L i).toInt ≤ 99) → 12 ≤ a.toInt ∧ a.toInt ≤ 480 → 0 ≤ t.toInt → 12 ≤ (hr_ G L n k a t).toInt ∧ (hr_ G L n k a t).toInt ≤ 480 := by
  intro n
  induction n with
  | zero => intro k a t _ ha _; exact ha
  | succ n ih =>
    intro k a t hN ha ht
    obtain ⟨hG, hL⟩ := hN k (Nat.le_refl _) (by omega)
    unfold hr_
    by_cases h : t < L k
    · rw [if_pos h]
      rw [i_lt] at h
      exact (hr_step hG ha ht (by omega) hL).2
    · rw [if_neg h]
      rw [i_lt] at h
      have e : (t - L k).toInt = t.toInt - (L k).toInt := by
        have := i_rg t
        exact i_sub (by omega) (by omega)
      exact ih (k + 1) (G k) (t - L k) (fun i h1 h2 => hN i (by omega) (by omega)) hG (by omega)
/-- at the end of a step: the next begins -/
theorem hr_at {G L : Nat → Int32} {n k : Nat} {a t : Int32} (hN : ∀ i, k ≤ i → i < k + (n + 1) → (12 ≤ (G i).toInt ∧ (G i).toInt ≤ 480) ∧ 1 ≤ (L i).toInt ∧ (L i).toInt ≤ 99) (ha : 12 ≤ a.toInt ∧ a.toInt ≤ 480) (ht : t = L k) : hr_ G L (n + 1) k a t = a + ((G k - a) * t) / L k := by
  obtain ⟨hG, hL⟩ := hN k (Nat.le_refl _) (by omega)
  subst ht
  have h1 := hr_step hG ha (by omega) (Int.le_refl _) hL
  have e : a + ((G k - a) * L k) / L k = G k := by
    rw [i_eq, h1.1, Int.mul_tdiv_cancel _ (by omega)]; omega
  rw [e]
  unfold hr_
  rw [if_neg (by rw [i_lt]; omega)]
  have e0 : L k - L k = 0 := by rw [Int32.sub_self]
  rw [e0]
  cases n with
  | zero => rfl
  | succ n =>
    unfold hr_
    obtain ⟨hG1, hL1⟩ := hN (k + 1) (by omega) (by omega)
    rw [if_pos (by rw [i_lt]; show (0 : Int) < _; omega)]
    rw [i_eq]
    have h2 := hr_step hG1 hG (t := 0) (L := L (k + 1)) (Int.le_refl _) (by show (0 : Int) ≤ _; omega) hL1
    rw [h2.1]
    show (G k).toInt + (((G (k + 1)).toInt - (G k).toInt) * 0).tdiv _ = _
    rw [Int.mul_zero, Int.zero_tdiv]; omega
theorem X4_herIn_l {σ : MS} {n : Nat} (hn : m_I σ 2 = nI n) (hn12 : n ≤ 12) (hN : mvN (m_A σ 8) (m_A σ 9) n) (hf : 12 ≤ (m_I σ 1).toInt ∧ (m_I σ 1).toInt ≤ 480) {t : Int32} (ht : 0 ≤ t.toInt) : X4_herIn t σ = some (hr_ (m_A σ 8) (m_A σ 9) n 0 (m_I σ 1) t) := by
  obtain ⟨e, h1, h2⟩ : ∃ e, lp_ (fun a : Int32 × Int32 × Int32 => X4_herIn_b10 σ a.1 a.2.1 a.2.2) fu_ (m_I σ 1, t, 0) = some e ∧ Sum.elim (fun e6a : Int32 × Int32 × Int32 => in_ e6a.2.2 12 <| in_ e6a.2.2 12 <| dv_ (m_A σ 9 e6a.2.2.toNatClampNeg) <| some (e6a.1 + ((((m_A σ 8 e6a.2.2.toNatClampNeg) - e6a.1) * e6a.2.1) / (m_A σ 9 e6a.2.2.toNatClampNeg)))) (fun e6b => some e6b) e = some (hr_ (m_A σ 8) (m_A σ 9) n 0 (m_I σ 1) t) := by
    refine lp_t (I := fun r a => ∃ k, a.2.2 = nI k ∧ k ≤ n ∧ r = n - k ∧ (12 ≤ a.1.toInt ∧ a.1.toInt ≤ 480) ∧ 0 ≤ a.2.1.toInt ∧ hr_ (m_A σ 8) (m_A σ 9) (n - k) k a.1 a.2.1 = hr_ (m_A σ 8) (m_A σ 9) n 0 (m_I σ 1) t) ?_ fu_ n _ ⟨0, rfl, Nat.zero_le _, rfl, hf, ht, rfl⟩ (by unfold fu_; omega)
    rintro r ⟨a, t', x4⟩ ⟨k, e1, e2, e3, e4, e5, e6⟩
    simp only at e1 e4 e5 e6 ⊢
    subst e1
    by_cases hk : k < n
    · obtain ⟨hG, hL⟩ := hN k hk
      obtain ⟨d, hd⟩ : ∃ d, n - k = d + 1 := ⟨n - k - 1, by omega⟩
      by_cases hlt : m_A σ 9 k < t'
      · have hlt' := hlt
        rw [i_lt] at hlt'
        have hs : (t' - m_A σ 9 k).toInt = t'.toInt - (m_A σ 9 k).toInt := by
          have := i_rg t'
          exact i_sub (by omega) (by omega)
        refine Or.inl ⟨(m_A σ 8 k, t' - m_A σ 9 k, nI k + 1), r - 1, by omega, ?_, k + 1, nI_1 k, by omega, by omega, hG, by show 0 ≤ (t' - m_A σ 9 k).toInt; omega, ?_⟩
        · unfold X4_herIn_b10
          rw [hn, if_neg (nI_ge hk (by omega)), e_inN (by omega) (by omega), nI_clamp (by omega), if_pos hlt, e_inN (by omega) (by omega), e_inN (by omega) (by omega)]
        · rw [← e6, hd]
          show hr_ _ _ (n - (k + 1)) (k + 1) (m_A σ 8 k) (t' - m_A σ 9 k) = hr_ _ _ (d + 1) k a t'
          rw [hr_, if_neg (by rw [i_lt]; omega)]
          congr 1
          omega
      · refine Or.inr ⟨.inl (a, t', nI k), ?_, ?_⟩
        · unfold X4_herIn_b10
          rw [hn, if_neg (nI_ge hk (by omega)), e_inN (by omega) (by omega), nI_clamp (by omega), if_neg hlt]
        · show in_ (nI k) 12 _ = _
          rw [e_inN (by omega) (by omega), e_inN (by omega) (by omega), nI_clamp (by omega), e_dv]
          · rw [← e6, hd]
            by_cases heq : t' = m_A σ 9 k
            · rw [hr_at (fun i h1 h2 => hN i (by omega)) e4 heq]
            · rw [hr_, if_pos]
              rw [i_lt] at hlt ⊢
              rw [i_eq] at heq
              omega
          · intro h0
            rw [h0] at hL
            have : ((0 : Int32)).toInt = 0 := by decide
            omega
    · have hkn : k = n := by omega
      refine Or.inr ⟨.inr a, ?_, ?_⟩
      · unfold X4_herIn_b10
        rw [hn, if_pos (nI_le (by omega) (by omega))]
      · show some a = _
        rw [← e6, hkn, Nat.sub_self]
        rfl
  unfold X4_herIn
  rw [h1, e_ob, h2]
theorem X2_her_l {g : GS} {ρ : Nat → Nat} {r sc n : Nat} {G L : Nat → Int32} (hsc : gK g sc = 2) (hp : PlP g ρ r sc 0 n G L) (hn12 : n ≤ 12) (hN : mvN G L n) {t : Int32} (ht : 0 ≤ t.toInt) : X2_her sc t g = some (hr_ G L n 0 (gI g sc 5) t) := by
  obtain ⟨l, xs, hl, hL, hlen, hx⟩ := hp
  obtain ⟨e, h1, h2⟩ : ∃ e, lp_ (fun a : Int32 × Int32 × Int32 => X2_her_b10 sc g a.1 a.2.1 a.2.2) fu_ (gI g sc 5, t, 0) = some e ∧ Sum.elim (fun e19a : Int32 × Int32 × Nat => rk_ g e19a.2.2 100 <| in_ 0 (gN g e19a.2.2) <| in_ 1 (gN g e19a.2.2) <| dv_ (gI g e19a.2.2 (1 : Int32).toNatClampNeg) <| some (e19a.1 + ((((gI g e19a.2.2 (0 : Int32).toNatClampNeg) - e19a.1) * e19a.2.1) / (gI g e19a.2.2 (1 : Int32).toNatClampNeg)))) (fun e19b => some e19b) e = some (hr_ G L n 0 (gI g sc 5) t) := by
    refine lp_t (I := fun r a => ∃ k, a.2.2 = nI k ∧ k ≤ n ∧ r = n - k ∧ 0 ≤ a.2.1.toInt ∧ hr_ G L (n - k) k a.1 a.2.1 = hr_ G L n 0 (gI g sc 5) t) ?_ fu_ n _ ⟨0, rfl, Nat.zero_le _, rfl, ht, rfl⟩ (by unfold fu_; omega)
    rintro r ⟨a, t', x4⟩ ⟨k, e1, e2, e3, e5, e6⟩
    simp only at e1 e5 e6 ⊢
    subst e1
    by_cases hk : k < n
    · obtain ⟨hG, hL1⟩ := hN k hk
      obtain ⟨d, hd⟩ : ∃ d, n - k = d + 1 := ⟨n - k - 1, by omega⟩
      obtain ⟨y, hy⟩ := get_ex (xs := xs) (k := k) (by omega)
      obtain ⟨p1, p2, p3, p4, p5, p6⟩ := hx k _ hy
      by_cases hlt : t' < L k
      · refine Or.inr ⟨.inl (a, t', y), ?_, ?_⟩
        · unfold X2_her_b10
          rw [e_wk hsc, hl, e_nn, e_wk hL.K, J2_size_l hL, e_ob, hlen, if_neg (nI_ge hk (by omega)), e_nn, e_wk hL.K, J2_get_l hL hy, e_ob, e_rk (by rw [p1]), e_in (by rw [p2]; decide)]
          rw [show ((1 : Int32).toNatClampNeg) = 1 from rfl, p5, if_neg (by rw [i_le]; rw [i_lt] at hlt; omega)]
        · show rk_ g _ 100 _ = _
          rw [e_rk (by rw [p1]), e_in (by rw [p2]; decide), e_in (by rw [p2]; decide), show ((1 : Int32).toNatClampNeg) = 1 from rfl, show ((0 : Int32).toNatClampNeg) = 0 from rfl, p4, p5, e_dv]
          · rw [← e6, hd, hr_, if_pos hlt]
          · intro h0
            rw [h0] at hL1
            have : ((0 : Int32)).toInt = 0 := by decide
            omega
      · have hlt' := hlt
        rw [i_lt] at hlt'
        have hs : (t' - L k).toInt = t'.toInt - (L k).toInt := by
          have := i_rg t'
          exact i_sub (by omega) (by omega)
        refine Or.inl ⟨(G k, t' - L k, nI k + 1), r - 1, by omega, ?_, k + 1, nI_1 k, by omega, by omega, by show 0 ≤ (t' - L k).toInt; omega, ?_⟩
        · unfold X2_her_b10
          rw [e_wk hsc, hl, e_nn, e_wk hL.K, J2_size_l hL, e_ob, hlen, if_neg (nI_ge hk (by omega)), e_nn, e_wk hL.K, J2_get_l hL hy, e_ob, e_rk (by rw [p1]), e_in (by rw [p2]; decide)]
          rw [show ((1 : Int32).toNatClampNeg) = 1 from rfl, show ((0 : Int32).toNatClampNeg) = 0 from rfl, p5, p4, if_pos (by rw [i_le]; omega), e_in (by rw [p2]; decide), e_in (by rw [p2]; decide)]
        · rw [← e6, hd]
          show hr_ _ _ (n - (k + 1)) (k + 1) (G k) (t' - L k) = hr_ _ _ (d + 1) k a t'
          rw [hr_, if_neg hlt]
          congr 1
          omega
    · have hkn : k = n := by omega
      refine Or.inr ⟨.inr a, ?_, ?_⟩
      · unfold X2_her_b10
        rw [e_wk hsc, hl, e_nn, e_wk hL.K, J2_size_l hL, e_ob, hlen, if_pos (nI_le (by omega) (by omega))]
      · show some a = _
        rw [← e6, hkn, Nat.sub_self]
        rfl
  unfold X2_her
  rw [e_wk hsc, h1, e_ob, h2]
/-- last -/
theorem sm_rg {L : Nat → Int32} : ∀ n, (∀ i, i < n → 1 ≤ (L i).toInt ∧ (L i).toInt ≤ 99) → n ≤ 12 → (n : Int) ≤ (sm_ L n).toInt ∧ (sm_ L n).toInt ≤ 99 * n := by
  intro n
  induction n with
  | zero => intro _ _; exact ⟨Int.le_refl 0, Int.le_refl 0⟩
  | succ n ih =>
    intro h hn
    have h1 := ih (fun i hi => h i (by omega)) (by omega)
    have h2 := h n (by omega)
    have e : (sm_ L (n + 1)).toInt = (sm_ L n).toInt + (L n).toInt := i_add (by omega) (by omega)
    rw [e]
    omega
theorem X4_last_l {σ : MS} {n : Nat} (hn : m_I σ 2 = nI n) (hn12 : n ≤ 12) : X4_last σ = some (sm_ (m_A σ 9) n) := by
  obtain ⟨e, h1, h2⟩ : ∃ e, lp_ (fun a : Int32 × Int32 => X4_last_b4 σ a.1 a.2) fu_ (0, 0) = some e ∧ e = sm_ (m_A σ 9) n := by
    refine lp_t (I := fun r a => ∃ k, a.2 = nI k ∧ k ≤ n ∧ r = n - k ∧ a.1 = sm_ (m_A σ 9) k) ?_ fu_ n _ ⟨0, rfl, Nat.zero_le _, rfl, rfl⟩ (by unfold fu_; omega)
    rintro r ⟨v, x2⟩ ⟨k, e1, e2, e3, e4⟩
    simp only at e1 e4 ⊢
    subst e1 e4
    unfold X4_last_b4
    by_cases hk : k < n
    · refine Or.inl ⟨(sm_ (m_A σ 9) k + m_A σ 9 k, nI k + 1), r - 1, by omega, ?_, k + 1, nI_1 k, by omega, by omega, rfl⟩
      rw [hn, if_neg (nI_ge hk (by omega)), e_inN (by omega) (by omega), nI_clamp (by omega)]
    · have hkn : k = n := by omega
      subst hkn
      exact Or.inr ⟨_, by rw [hn, if_pos (nI_le (Nat.le_refl _) (by omega))], rfl⟩
  unfold X4_last
  rw [h1, e_ob, h2]
/-! whose face it is -/
def wy_ (C T : Nat → Int32) (t s : Int32) : Nat → Int32
  | 0 => 0
  | n + 1 => if t < C n + s then wy_ C T t s n else T n
def chN (C T : Nat → Int32) (n : Nat) : Prop := ∀ i, i < n → (1 ≤ (C i).toInt ∧ (C i).toInt ≤ 600) ∧ (T i = 0 ∨ T i = 1)
theorem wy_01 {C T : Nat → Int32} {t s : Int32} : ∀ n, (∀ i, i < n → T i = 0 ∨ T i = 1) → wy_ C T t s n = 0 ∨ wy_ C T t s n = 1 := by
  intro n
  induction n with
  | zero => intro _; exact Or.inl rfl
  | succ n ih =>
    intro h
    unfold wy_
    split
    · exact ih (fun i hi => h i (by omega))
    · exact h n (by omega)
theorem wy_sh {C T : Nat → Int32} {t s : Int32} (ht : 0 ≤ t.toInt ∧ t.toInt ≤ 700) (hs : -100 ≤ s.toInt ∧ s.toInt ≤ 100) : ∀ n, (∀ i, i < n → 1 ≤ (C i).toInt ∧ (C i).toInt ≤ 600) → wy_ C T (t - s) 0 n = wy_ C T t s n := by
  intro n
  induction n with
  | zero => intro _; rfl
  | succ n ih =>
    intro h
    have hc := h n (by omega)
    have e1 : (t - s).toInt = t.toInt - s.toInt := i_sub (by omega) (by omega)
    have e2 : (C n + s).toInt = (C n).toInt + s.toInt := i_add (by omega) (by omega)
    unfold wy_
    rw [ih (fun i hi => h i (by omega)), Int32.add_zero]
    by_cases h1 : t < C n + s
    · rw [if_pos h1, if_pos]
      rw [i_lt] at h1 ⊢
      omega
    · rw [if_neg h1, if_neg]
      rw [i_lt] at h1 ⊢
      omega
theorem X4_whoseBy_l {σ : MS} {n : Nat} (hn : m_I σ 3 = nI n) (hn6 : n ≤ 6) {t s : Int32} : X4_whoseBy t s σ = some (wy_ (m_A σ 10) (m_A σ 11) t s n) := by
  obtain ⟨e, h1, h2⟩ : ∃ e, lp_ (fun a : Int32 × Int32 => X4_whoseBy_b5 t s σ a.1 a.2) fu_ (0, 0) = some e ∧ e = wy_ (m_A σ 10) (m_A σ 11) t s n := by
    refine lp_t (I := fun r a => ∃ k, a.2 = nI k ∧ k ≤ n ∧ r = n - k ∧ a.1 = wy_ (m_A σ 10) (m_A σ 11) t s k) ?_ fu_ n _ ⟨0, rfl, Nat.zero_le _, rfl, rfl⟩ (by unfold fu_; omega)
    rintro r ⟨v, x2⟩ ⟨k, e1, e2, e3, e4⟩
    simp only at e1 e4 ⊢
    subst e1 e4
    unfold X4_whoseBy_b5
    by_cases hk : k < n
    · rw [hn, if_neg (nI_ge hk (by omega)), e_inN (by omega) (by omega), nI_clamp (by omega)]
      by_cases hlt : t < m_A σ 10 k + s
      · refine Or.inl ⟨(wy_ (m_A σ 10) (m_A σ 11) t s k, nI k + 1), r - 1, by omega, ?_, k + 1, nI_1 k, by omega, by omega, ?_⟩
        · rw [if_pos hlt]; rfl
        · show _ = wy_ _ _ t s (k + 1)
          rw [wy_, if_pos hlt]
      · refine Or.inl ⟨(m_A σ 11 k, nI k + 1), r - 1, by omega, ?_, k + 1, nI_1 k, by omega, by omega, ?_⟩
        · rw [if_neg hlt, e_inN (by omega) (by omega)]; rfl
        · show _ = wy_ _ _ t s (k + 1)
          rw [wy_, if_neg hlt]
    · have hkn : k = n := by omega
      subst hkn
      exact Or.inr ⟨_, by rw [hn, if_pos (nI_le (Nat.le_refl _) (by omega))], rfl⟩
  unfold X4_whoseBy
  rw [h1, e_ob, h2]
theorem X2_isHis_l {g : GS} {ρ : Nat → Nat} {r sc n : Nat} {C T : Nat → Int32} (hsc : gK g sc = 2) (hp : PlP g ρ r sc 1 n C T) (hn6 : n ≤ 6) (hN : chN C T n) {t : Int32} : X2_isHis sc t g = some (wy_ C T t 0 n) := by
  obtain ⟨l, xs, hl, hL, hlen, hx⟩ := hp
  obtain ⟨e, h1, h2⟩ : ∃ e, lp_ (fun a : Int32 × Int32 => X2_isHis_b4 sc t g a.1 a.2) fu_ (0, 0) = some e ∧ e = wy_ C T t 0 n := by
    refine lp_t (I := fun r a => ∃ k, a.2 = nI k ∧ k ≤ n ∧ r = n - k ∧ a.1 = wy_ C T t 0 k) ?_ fu_ n _ ⟨0, rfl, Nat.zero_le _, rfl, rfl⟩ (by unfold fu_; omega)
    rintro r ⟨v, x2⟩ ⟨k, e1, e2, e3, e4⟩
    simp only at e1 e4 ⊢
    subst e1 e4
    unfold X2_isHis_b4
    rw [e_wk hsc, hl, e_nn, e_wk hL.K, J2_size_l hL, e_ob, hlen]
    by_cases hk : k < n
    · obtain ⟨y, hy⟩ := get_ex (xs := xs) (k := k) (by omega)
      obtain ⟨p1, p2, p3, p4, p5, p6⟩ := hx k _ hy
      rw [if_neg (nI_ge hk (by omega)), e_nn, e_wk hL.K, J2_get_l hL hy, e_ob, e_rk (by rw [p1]), e_in (by rw [p2]; decide), show ((0 : Int32).toNatClampNeg) = 0 from rfl, show ((1 : Int32).toNatClampNeg) = 1 from rfl, p4]
      by_cases hlt : t < C k
      · refine Or.inl ⟨(wy_ C T t 0 k, nI k + 1), r - 1, by omega, ?_, k + 1, nI_1 k, by omega, by omega, ?_⟩
        · rw [if_pos hlt]; rfl
        · show _ = wy_ _ _ t 0 (k + 1)
          rw [wy_, Int32.add_zero, if_pos hlt]
      · refine Or.inl ⟨(T k, nI k + 1), r - 1, by omega, ?_, k + 1, nI_1 k, by omega, by omega, ?_⟩
        · rw [if_neg hlt, e_nn, e_wk hL.K, J2_get_l hL hy, e_ob, e_rk (by rw [p1]), e_in (by rw [p2]; decide), p5]
          rcases (hN k hk).2 with h0 | h0 <;> rw [h0] <;> rfl
        · show _ = wy_ _ _ t 0 (k + 1)
          rw [wy_, Int32.add_zero, if_neg hlt]
    · have hkn : k = n := by omega
      subst hkn
      exact Or.inr ⟨_, by rw [if_pos (nI_le (Nat.le_refl _) (by omega))], rfl⟩
  unfold X2_isHis
  rw [h1, e_ob, h2]
  rcases wy_01 (C := C) (t := t) (s := 0) n (fun i hi => (hN i hi).2) with h0 | h0 <;> rw [h0] <;> rfl
/-! chalk on the floor -/
def mk_ (S : Nat → Int32) (m : Nat) (x : Int32) : Bool := (List.range m).any (fun i => decide (jabs_ (S (6 + i) - x) ≤ 6))
theorem mk_t {S : Nat → Int32} {m : Nat} {x : Int32} : mk_ S m x = true ↔ ∃ i, i < m ∧ jabs_ (S (6 + i) - x) ≤ 6 := by
  unfold mk_
  rw [List.any_eq_true]
  constructor
  · rintro ⟨i, hi, hv⟩
    exact ⟨i, List.mem_range.mp hi, of_decide_eq_true hv⟩
  · rintro ⟨i, hi, hv⟩
    exact ⟨i, List.mem_range.mpr hi, decide_eq_true hv⟩
theorem mk_f {S : Nat → Int32} {m : Nat} {x : Int32} (h : ∀ i, i < m → ¬ jabs_ (S (6 + i) - x) ≤ 6) : mk_ S m x = false := by
  cases hb : mk_ S m x with
  | false => rfl
  | true =>
    obtain ⟨i, hi, hv⟩ := mk_t.mp hb
    exact absurd hv (h i hi)
theorem nle_lt {x y : Int32} : ¬ x ≤ y ↔ y < x := by rw [i_le, i_lt]; omega
theorem nlt_le {x y : Int32} : ¬ x < y ↔ y ≤ x := by rw [i_le, i_lt]; omega
theorem X3_isByMark_l {g : GS} {ρ : Nat → Nat} {r x m : Nat} {S : Nat → Int32} (h : SetP g ρ r x m S) {v : Int32} : X3_isByMark x v g = some (if mk_ S m v = true then 1 else 0) := by
  obtain ⟨h1, h2, h3, -, l, ys, h5, h6, h7, h8⟩ := h
  have hlen := h6.len
  obtain ⟨o, m1, m2⟩ : ∃ o, lp_ (fun a => X3_isByMark_b2 x v g a) fu_ 0 = some o ∧ ((mk_ S m v = true ∧ o = .inl ()) ∨ (mk_ S m v = false ∧ o = .inr ())) := by
    refine lp_t (I := fun k a => ∃ i, a = nI i ∧ i ≤ m ∧ k = m - i ∧ ∀ j, j < i → ¬ jabs_ (S (6 + j) - v) ≤ 6) ?_ fu_ m _ ⟨0, rfl, Nat.zero_le _, rfl, fun j hj => by omega⟩ (by unfold fu_; omega)
    rintro k a ⟨i, e1, e2, e3, e4⟩
    subst e1
    unfold X3_isByMark_b2
    rw [e_wk h1, h5, e_nn, e_wk h6.K, J2_size_l h6, e_ob, h7]
    by_cases hi : i < m
    · have hy := List.getElem?_eq_getElem (l := ys) (i := i) (by omega)
      obtain ⟨n1, n2, n3, n4⟩ := h8 i _ hy
      rw [if_neg (nI_ge hi (by omega)), e_nn, e_wk h6.K, J2_get_l h6 hy, e_ob, e_rk n1, J19_intValue_l n1, e_ob, n4]
      by_cases hc : jabs_ (S (6 + i) - v) ≤ 6
      · refine Or.inr ⟨.inl (), by rw [if_neg (by rw [nlt_le]; exact hc)], Or.inl ⟨mk_t.mpr ⟨i, hi, hc⟩, rfl⟩⟩
      · refine Or.inl ⟨nI i + 1, k - 1, by omega, by rw [if_pos (nle_lt.mp hc)], i + 1, nI_1 i, by omega, by omega, fun j hj => ?_⟩
        by_cases hji : j = i
        · rw [hji]; exact hc
        · exact e4 j (by omega)
    · exact Or.inr ⟨.inr (), by rw [if_pos (nI_le (by omega) (by omega))], Or.inr ⟨mk_f (fun j hj => e4 j (by omega)), rfl⟩⟩
  unfold X3_isByMark
  rw [m1, e_ob]
  rcases m2 with ⟨a, rfl⟩ | ⟨a, rfl⟩ <;> rw [a] <;> rfl
theorem off_l {x y : Int32} (hx : -100000 ≤ x.toInt ∧ x.toInt ≤ 100000) (hy : -100000 ≤ y.toInt ∧ y.toInt ≤ 100000) : X4_off x y = some (jabs_ (x - y)) ∧ (jabs_ (x - y)).toInt = if y.toInt ≤ x.toInt then x.toInt - y.toInt else y.toInt - x.toInt := by
  have e1 : (x - y).toInt = x.toInt - y.toInt := i_sub (by omega) (by omega)
  have e2 : (y - x).toInt = y.toInt - x.toInt := i_sub (by omega) (by omega)
  have z0 : ((0 : Int32)).toInt = 0 := by decide
  unfold X4_off jabs_
  by_cases h : y ≤ x
  · have h' := h
    rw [i_le] at h'
    rw [if_pos h, if_pos (show (0 : Int32) ≤ x - y by rw [i_le, e1]; omega), if_pos h', e1]
    exact ⟨rfl, rfl⟩
  · have h' := h
    rw [i_le] at h'
    have e3 : (0 - (x - y)).toInt = y.toInt - x.toInt := by rw [i_sub (by rw [e1]; omega) (by rw [e1]; omega), e1]; omega
    rw [if_neg h, if_neg (show ¬ (0 : Int32) ≤ x - y by rw [i_le, e1]; omega), if_neg h', e3]
    refine ⟨?_, rfl⟩
    rw [Option.some.injEq, i_eq, e2, e3]
theorem jabs_comm {x y : Int32} (hx : -100000 ≤ x.toInt ∧ x.toInt ≤ 100000) (hy : -100000 ≤ y.toInt ∧ y.toInt ≤ 100000) : jabs_ (x - y) = jabs_ (y - x) := by
  rw [i_eq, (off_l hx hy).2, (off_l hy hx).2]
  split <;> split <;> omega
theorem X4_isByMark_l {σ : MS} {m : Nat} (hm : m_I σ 4 = nI m) (hm6 : m ≤ 6) (hS : ∀ i, i < m → 12 ≤ (m_A σ 53 (6 + i)).toInt ∧ (m_A σ 53 (6 + i)).toInt ≤ 480) {v : Int32} (hv : 0 ≤ v.toInt ∧ v.toInt ≤ 1000) : X4_isByMark v σ = some (if mk_ (m_A σ 53) m v = true then 1 else 0) := by
  obtain ⟨o, m1, m2⟩ : ∃ o, lp_ (fun a => X4_isByMark_b2 v σ a) fu_ 0 = some o ∧ ((mk_ (m_A σ 53) m v = true ∧ o = .inl ()) ∨ (mk_ (m_A σ 53) m v = false ∧ o = .inr ())) := by
    refine lp_t (I := fun k a => ∃ i, a = nI i ∧ i ≤ m ∧ k = m - i ∧ ∀ j, j < i → ¬ jabs_ (m_A σ 53 (6 + j) - v) ≤ 6) ?_ fu_ m _ ⟨0, rfl, Nat.zero_le _, rfl, fun j hj => by omega⟩ (by unfold fu_; omega)
    rintro k a ⟨i, e1, e2, e3, e4⟩
    subst e1
    unfold X4_isByMark_b2
    rw [hm]
    by_cases hi : i < m
    · have hb := hS i hi
      have h6 : 6 + nI i = nI (6 + i) := nI_add 6 i
      rw [if_neg (nI_ge hi (by omega)), h6, e_inN (by omega) (by omega), nI_clamp (by omega), (off_l (x := v) (y := m_A σ 53 (6 + i)) (by omega) (by omega)).1, e_ob, jabs_comm (x := v) (by omega) (by omega)]
      by_cases hc : jabs_ (m_A σ 53 (6 + i) - v) ≤ 6
      · exact Or.inr ⟨.inl (), by rw [if_neg (by rw [nlt_le]; exact hc)], Or.inl ⟨mk_t.mpr ⟨i, hi, hc⟩, rfl⟩⟩
      · refine Or.inl ⟨nI i + 1, k - 1, by omega, by rw [if_pos (nle_lt.mp hc)], i + 1, nI_1 i, by omega, by omega, fun j hj => ?_⟩
        by_cases hji : j = i
        · rw [hji]; exact hc
        · exact e4 j (by omega)
    · exact Or.inr ⟨.inr (), by rw [if_pos (nI_le (by omega) (by omega))], Or.inr ⟨mk_f (fun j hj => e4 j (by omega)), rfl⟩⟩
  unfold X4_isByMark
  rw [m1, e_ob]
  rcases m2 with ⟨a, rfl⟩ | ⟨a, rfl⟩ <;> rw [a] <;> rfl
end
section
/-! LAWS: bounded numbers, inches, forms and codes (own work) -/
set_option maxRecDepth 100000
def bd_ (v a b : Int32) : Int32 := if a ≤ v then if v ≤ b then v else b else a
theorem X4_bounded_l {v a b : Int32} : X4_bounded v a b = some (bd_ v a b) := by
  unfold X4_bounded bd_
  split
  · split <;> rfl
  · rfl
theorem X1_kept_l {v a b : Int32} (h : a ≤ b) : X1_kept v a b = some (bd_ v a b) := by
  unfold X1_kept jmax_ jmin_ bd_
  rw [Option.some.injEq, i_eq]
  rw [i_le] at h
  simp only [i_le, i_lt]
  split <;> split <;> split <;> (try split) <;> first | rfl | omega
theorem bd_rg {v a b : Int32} (h : a.toInt ≤ b.toInt) : a.toInt ≤ (bd_ v a b).toInt ∧ (bd_ v a b).toInt ≤ b.toInt := by
  unfold bd_
  simp only [i_le]
  split
  · split <;> omega
  · omega
theorem bd_in {v a b : Int32} (h1 : a ≤ v) (h2 : v ≤ b) : bd_ v a b = v := by
  unfold bd_
  rw [if_pos h1, if_pos h2]
theorem k_0 : ((0 : Int32)).toInt = 0 := by decide
theorem k_1 : ((1 : Int32)).toInt = 1 := by decide
theorem k_12 : ((12 : Int32)).toInt = 12 := by decide
theorem k_480 : ((480 : Int32)).toInt = 480 := by decide
theorem k_999 : ((999 : Int32)).toInt = 999 := by decide
theorem k_600 : ((600 : Int32)).toInt = 600 := by decide
theorem k_100 : ((100 : Int32)).toInt = 100 := by decide
theorem k_4320 : ((4320 : Int32)).toInt = 4320 := by decide
theorem k_n1 : ((-1 : Int32)).toInt = -1 := by decide
theorem cl_0 : ((0 : Int32)).toNatClampNeg = 0 := rfl
theorem cl_1 : ((1 : Int32)).toNatClampNeg = 1 := rfl
theorem cl_2 : ((2 : Int32)).toNatClampNeg = 2 := rfl
theorem cl_3 : ((3 : Int32)).toNatClampNeg = 3 := rfl
theorem cl_4 : ((4 : Int32)).toNatClampNeg = 4 := rfl
theorem cl_5 : ((5 : Int32)).toNatClampNeg = 5 := rfl
theorem cl_6 : ((6 : Int32)).toNatClampNeg = 6 := rfl
theorem cl_7 : ((7 : Int32)).toNatClampNeg = 7 := rfl
/-! inches -/
def lt_ (late t : Int32) : Int32 := if late ≤ t then t - late else 0
def ic_ (G L : Nat → Int32) (n : Nat) (f b late t who : Int32) : Int32 :=
  if who = 0 then hr_ G L n 0 f (lt_ late t) else if hr_ G L n 0 f (lt_ late t) + b ≤ 480 then hr_ G L n 0 f (lt_ late t) + b else 480
theorem lt_rg {late t : Int32} (hl : 0 ≤ late.toInt ∧ late.toInt ≤ 1000) (ht : -1000 ≤ t.toInt ∧ t.toInt ≤ 1000) : 0 ≤ (lt_ late t).toInt ∧ jmax_ 0 (t - late) = lt_ late t := by
  have e : (t - late).toInt = t.toInt - late.toInt := i_sub (by omega) (by omega)
  unfold lt_ jmax_
  by_cases h : late ≤ t
  · have h' := h
    rw [i_le] at h'
    rw [if_pos h]
    refine ⟨by omega, ?_⟩
    rw [i_eq]
    by_cases h2 : (0 : Int32) < t - late
    · rw [if_pos h2]
    · rw [if_neg h2]
      rw [i_lt, k_0] at h2
      rw [k_0]
      omega
  · have h' := h
    rw [i_le] at h'
    rw [if_neg h, if_neg (by rw [i_lt, e, k_0]; omega)]
    exact ⟨by rw [k_0]; omega, rfl⟩
theorem X4_inchesOf_l {σ : MS} {n : Nat} (hn : m_I σ 2 = nI n) (hn12 : n ≤ 12) (hN : mvN (m_A σ 8) (m_A σ 9) n) (hf : 12 ≤ (m_I σ 1).toInt ∧ (m_I σ 1).toInt ≤ 480) (hl : 0 ≤ (m_I σ 59).toInt ∧ (m_I σ 59).toInt ≤ 1000) {t who : Int32} (ht : -1000 ≤ t.toInt ∧ t.toInt ≤ 1000) :
    X4_inchesOf t who σ = some (ic_ (m_A σ 8) (m_A σ 9) n (m_I σ 1) (m_A σ 53 4) (m_I σ 59) t who) := by
  have h0 := (lt_rg hl ht).1
  have key : X4_inchesOf_j19 who (lt_ (m_I σ 59) t) σ = some (ic_ (m_A σ 8) (m_A σ 9) n (m_I σ 1) (m_A σ 53 4) (m_I σ 59) t who) := by
    unfold X4_inchesOf_j19 ic_
    rw [X4_herIn_l hn hn12 hN hf h0, e_ob]
    by_cases hw : who = 0
    · rw [if_pos hw, if_pos hw]
    · rw [if_neg hw, if_neg hw, e_in (by decide), cl_4]
      split
      · rw [e_in (by decide)]
      · rfl
  unfold X4_inchesOf
  unfold lt_ at key
  split at key
  · rename_i h; rw [if_pos h]; exact key
  · rename_i h; rw [if_neg h]; exact key
theorem X11_inches_l {g : GS} {ρ : Nat → Nat} {r u a sc x n : Nat} {G L : Nat → Int32} (hu : gK g u = 10) (ha : gK g a = 1) (hsc : gK g sc = 2) (hx : gK g x = 3) (h7 : gR g u 7 = a + 1) (hs : gR g a 0 = sc + 1) (h0 : gR g u 0 = x + 1) (hp : PlP g ρ r sc 0 n G L) (hn12 : n ≤ 12) (hN : mvN G L n) (hl : 0 ≤ (gI g u 4).toInt ∧ (gI g u 4).toInt ≤ 1000) {t who : Int32} (ht : -1000 ≤ t.toInt ∧ t.toInt ≤ 1000) :
    X11_inches u t who g = some (ic_ G L n (gI g sc 5) (gI g x 5) (gI g u 4) t who) := by
  obtain ⟨h1, h2⟩ := lt_rg hl ht
  unfold X11_inches ic_
  rw [e_wk hu, h7, e_nn, e_wk ha, hs, e_nn, e_wk hsc, h2, X2_her_l hsc hp hn12 hN h1, e_ob]
  by_cases hw : who = 0
  · rw [if_pos hw, if_pos hw]
  · rw [if_neg hw, if_neg hw, h0, e_nn, e_wk hx]
    unfold jmin_
    rw [Option.some.injEq, i_eq]
    by_cases hlt : hr_ G L n 0 (gI g sc 5) (lt_ (gI g u 4) t) + gI g x 5 < 480
    · rw [if_pos hlt, if_pos]
      rw [i_lt] at hlt
      rw [i_le]
      omega
    · rw [if_neg hlt]
      rw [i_lt] at hlt
      split
      · rename_i h3
        rw [i_le] at h3
        omega
      · rfl
theorem ic_rg {G L : Nat → Int32} {n : Nat} {f b late t who : Int32} (hn12 : n ≤ 12) (hN : mvN G L n) (hf : 12 ≤ f.toInt ∧ f.toInt ≤ 480) (hb : 0 ≤ b.toInt ∧ b.toInt ≤ 1000) (hl : 0 ≤ late.toInt ∧ late.toInt ≤ 1000) (ht : -1000 ≤ t.toInt ∧ t.toInt ≤ 1000) : 12 ≤ (ic_ G L n f b late t who).toInt ∧ (ic_ G L n f b late t who).toInt ≤ 480 := by
  have h1 := hr_rg n 0 f (lt_ late t) (fun i _ h => hN i (by omega)) hf (lt_rg hl ht).1
  unfold ic_
  split
  · exact h1
  · have e : (hr_ G L n 0 f (lt_ late t) + b).toInt = (hr_ G L n 0 f (lt_ late t)).toInt + b.toInt := i_add (by omega) (by omega)
    split
    · rename_i h2
      rw [i_le, k_480] at h2
      omega
    · decide
/-! what he judges -/
def jd_ (S : Nat → Int32) (m : Nat) (x : Int32) : Int32 := if mk_ S m x = true then x else bd_ (x + (x * S 3) / 100) 12 480
theorem jd_rg {S : Nat → Int32} {m : Nat} {x : Int32} (hx : 12 ≤ x.toInt ∧ x.toInt ≤ 480) : 12 ≤ (jd_ S m x).toInt ∧ (jd_ S m x).toInt ≤ 480 := by
  unfold jd_
  split
  · exact hx
  · have h := bd_rg (v := x + (x * S 3) / 100) (a := 12) (b := 480) (by decide)
    rw [k_12, k_480] at h
    exact h
theorem X4_judged_l {σ : MS} {m : Nat} (hm : m_I σ 4 = nI m) (hm6 : m ≤ 6) (hS : ∀ i, i < m → 12 ≤ (m_A σ 53 (6 + i)).toInt ∧ (m_A σ 53 (6 + i)).toInt ≤ 480) {v : Int32} (hv : 0 ≤ v.toInt ∧ v.toInt ≤ 1000) : X4_judged v σ = some (jd_ (m_A σ 53) m v) := by
  unfold X4_judged jd_
  rw [X4_isByMark_l hm hm6 hS hv, e_ob]
  cases h : mk_ (m_A σ 53) m v with
  | true => rfl
  | false =>
    simp only [Bool.false_eq_true, if_false]
    rw [if_pos trivial, e_in (by decide), e_dv (by decide), X4_bounded_l, e_ob, cl_3]
theorem X11_judged_l {g : GS} {ρ : Nat → Nat} {r u x m : Nat} {S : Nat → Int32} (hu : gK g u = 10) (h0 : gR g u 0 = x + 1) (h : SetP g ρ r x m S) {v : Int32} : X11_judged u v g = some (jd_ S m v) := by
  have hx := h.1
  have h3 := h.2.2.2.1.2.2.2.1
  unfold X11_judged jd_
  rw [e_wk hu, h0, e_nn, e_wk hx, X3_isByMark_l h, e_ob]
  cases hb : mk_ S m v with
  | true => rfl
  | false =>
    simp only [Bool.false_eq_true, if_false]
    rw [if_pos trivial, e_nn, e_wk hx, e_dv (by decide), X1_kept_l (by decide), e_ob, h3]
/-! signs and codes -/
def okS (s : Int32) : Prop := s = 38 ∨ s = 124 ∨ s = 60 ∨ s = 61 ∨ s = 43 ∨ s = 45 ∨ s = 42 ∨ s = 47
def opc (s : Int32) : Int32 := if s = 38 then 4 else if s = 124 then 5 else if s = 60 then 6 else if s = 61 then 7 else if s = 43 then 8 else if s = 45 then 9 else if s = 42 then 10 else 11
theorem by_works {s a b : Int32} (h : okS s) : ∃ v, X7_by s a b = some v ∧ X4_works (opc s) a b = some v := by
  rcases h with rfl | rfl | rfl | rfl | rfl | rfl | rfl | rfl
  · refine ⟨if a = 0 then 0 else if b = 0 then 0 else 1, ?_, ?_⟩
    · unfold X7_by
      rw [if_pos rfl]
      split
      · rfl
      · split <;> rfl
    · show X4_works 4 a b = _
      unfold X4_works
      rw [if_pos rfl]
      split
      · rfl
      · split <;> rfl
  · refine ⟨if a = 0 then if b = 0 then 0 else 1 else 1, ?_, ?_⟩
    · unfold X7_by X7_by_j180
      simp only [show ((124 : Int32) = 38) = False from by decide, show ((124 : Int32) = 39) = False from by decide, show ((124 : Int32) = 40) = False from by decide, show ((124 : Int32) = 41) = False from by decide, show ((124 : Int32) = 42) = False from by decide, show ((124 : Int32) = 43) = False from by decide, show ((124 : Int32) = 44) = False from by decide, show ((124 : Int32) = 45) = False from by decide, show ((124 : Int32) = 46) = False from by decide, show ((124 : Int32) = 47) = False from by decide, show ((124 : Int32) = 48) = False from by decide, show ((124 : Int32) = 49) = False from by decide, show ((124 : Int32) = 50) = False from by decide, show ((124 : Int32) = 51) = False from by decide, show ((124 : Int32) = 52) = False from by decide, show ((124 : Int32) = 53) = False from by decide, show ((124 : Int32) = 54) = False from by decide, show ((124 : Int32) = 55) = False from by decide, show ((124 : Int32) = 56) = False from by decide, show ((124 : Int32) = 57) = False from by decide, show ((124 : Int32) = 58) = False from by decide, show ((124 : Int32) = 59) = False from by decide, show ((124 : Int32) = 60) = False from by decide, show ((124 : Int32) = 61) = False from by decide, if_false]
      split
      · split <;> rfl
      · rfl
    · show X4_works 5 a b = _
      unfold X4_works X4_works_j66
      rw [if_neg (by decide), if_pos rfl]
      split
      · split <;> rfl
      · rfl
  · refine ⟨if b ≤ a then 0 else 1, ?_, ?_⟩
    · show (if b ≤ a then some (0 : Int32) else some 1) = _
      split <;> rfl
    · show X4_works 6 a b = _
      unfold X4_works
      rw [if_neg (by decide), if_neg (by decide), if_pos rfl]
      split <;> rfl
  · refine ⟨if a = b then 1 else 0, ?_, ?_⟩
    · show (if a = b then some (1 : Int32) else some 0) = _
      split <;> rfl
    · show X4_works 7 a b = _
      unfold X4_works
      rw [if_neg (by decide), if_neg (by decide), if_neg (by decide), if_pos rfl]
      split <;> rfl
  · exact ⟨a + b, rfl, rfl⟩
  · exact ⟨a - b, rfl, rfl⟩
  · exact ⟨a * b, rfl, rfl⟩
  · refine ⟨if b = 0 then 0 else a / b, ?_, ?_⟩
    · show (if b = 0 then some (0 : Int32) else dv_ b <| some (a / b)) = _
      split
      · rfl
      · rename_i h; rw [e_dv h]
    · show (if b = 0 then some (0 : Int32) else dv_ b <| some (a / b)) = _
      split
      · rfl
      · rename_i h; rw [e_dv h]
end
section
/-! LAWS: a form in the heap and its code in the array reckon alike (own work) -/
set_option maxRecDepth 100000
def CodeAt (A : Nat → Int32) (k : Nat) (c : List Int32) : Prop := ∀ i v, c[i]? = some v → A (k + i) = v
theorem CodeAt.left {A : Nat → Int32} {k : Nat} {c d : List Int32} (h : CodeAt A k (c ++ d)) : CodeAt A k c := fun i v hv => by
  have hi := (List.getElem?_eq_some_iff.mp hv).1
  exact h i v (by rw [List.getElem?_append_left hi]; exact hv)
theorem CodeAt.right {A : Nat → Int32} {k : Nat} {c d : List Int32} (h : CodeAt A k (c ++ d)) : CodeAt A (k + c.length) d := fun i v hv => by
  rw [Nat.add_assoc]
  exact h (c.length + i) v (by rw [List.getElem?_append_right (by omega), Nat.add_sub_cancel_left]; exact hv)
theorem CodeAt.one {A : Nat → Int32} {k : Nat} {v : Int32} {d : List Int32} (h : CodeAt A k (v :: d)) : A k = v := h 0 v rfl
theorem CodeAt.tail {A : Nat → Int32} {k : Nat} {v : Int32} {d : List Int32} (h : CodeAt A k (v :: d)) : CodeAt A (k + 1) d := fun i w hw => by
  rw [Nat.add_assoc, Nat.add_comm 1 i]
  exact h (i + 1) w hw
/-- a StringBuilder that holds the signs ss -/
def SbP (g : GS) (ρ : Nat → Nat) (r b : Nat) (ss : List Int32) : Prop :=
  gK g b = 13 ∧ ρ b = r ∧ b < gz g ∧ gI g b 1 = 0 ∧ gI g b 3 = nI ss.length ∧ ∃ v, gR g b 0 = v + 1 ∧ v < gz g ∧ gK g v = 101 ∧ ρ v = r ∧ ss.length ≤ gN g v ∧ gN g v ≤ 5000 ∧ ∀ i s, ss[i]? = some s → gI g v i = s
theorem SbP.to {W : Nat → Prop} {g g' : GS} {ρ ρ' : Nat → Nat} {r b : Nat} {ss : List Int32} (h : SbP g ρ r b ss) (hF : Fr W g g') (hA : ∀ q, q < gz g → ρ q = r → ρ' q = r) (hW : ∀ q, q < gz g → ρ q = r → ¬ W q) : SbP g' ρ' r b ss := by
  obtain ⟨h1, h2, h3, h4, h5, v, h6, h7, h8, h9, h10, h11, h12⟩ := h
  have hb := hW b h3 h2
  have hv := hW v h7 h9
  exact ⟨by rw [hF.K h3, h1], hA b h3 h2, hF.lt h3, by rw [hF.I h3 hb, h4], by rw [hF.I h3 hb, h5], v, by rw [hF.R h3 hb, h6], hF.lt h7, by rw [hF.K h7, h8], hA v h7 h9, by rw [hF.N h7]; exact h10, by rw [hF.N h7]; exact h11, fun i s hs => by rw [hF.I h7 hv]; exact h12 i s hs⟩
theorem SbP.re {g : GS} {ρ ρ' : Nat → Nat} {r r' b : Nat} {ss : List Int32} (h : SbP g ρ r b ss) (h1 : ∀ q, q < gz g → ρ q = r → ρ' q = r') : SbP g ρ' r' b ss := by
  obtain ⟨k1, k2, k3, k4, k5, v, k6, k7, k8, k9, k10⟩ := h
  exact ⟨k1, h1 b k3 k2, k3, k4, k5, v, k6, k7, k8, h1 v k7 k9, k10⟩
theorem J14_charAt_l {g : GS} {ρ : Nat → Nat} {r b i : Nat} {ss : List Int32} {s : Int32} (h : SbP g ρ r b ss) (hS : ∃ d, gS g 5 = d + 1) (hs : ss[i]? = some s) (hok : okS s) : J14_charAt b (nI i) g = some s := by
  have hi := (List.getElem?_eq_some_iff.mp hs).1
  obtain ⟨h1, h2, h3, h4, h5, v, h6, h7, h8, h9, h10, h11, h12⟩ := h
  obtain ⟨d, hd⟩ := hS
  have hj : jmin_ (nI ss.length) (Int32.ofNat (gN g v) >>> ((0 : Int32) &&& 31)) = nI ss.length := by
    have e : Int32.ofNat (gN g v) >>> ((0 : Int32) &&& 31) = nI (gN g v) := by
      rw [show ((0 : Int32) &&& 31) = 0 from rfl, Int32.shiftRight_zero]; rfl
    rw [e, jmin_l (by omega) (by omega), Nat.min_eq_left h10]
  unfold J14_charAt J13_charAt J8_checkIndex J11_checkIndex
  rw [e_wk h1, e_wk h1, h6, e_nn, e_rk (by rw [h8]), h4, h5, hj, hd, e_nn, if_neg (nI_pos (by omega)), if_pos (nI_lt hi (by omega)), e_ob, e_ob, if_pos rfl, e_inN (by omega) (by omega), nI_clamp (by omega), e_ob, h12 i s hs]
  rcases hok with rfl | rfl | rfl | rfl | rfl | rfl | rfl | rfl <;> rfl
/-- the form b, all of whose cells have role 0, has the code c (nm: what the values' names are) -/
def FL (nm : List Int32) (g : GS) (ρ : Nat → Nat) : Nat → Nat → List Int32 → Prop
  | 0, _, _ => False
  | n + 1, b, c => ρ b = 0 ∧ b < gz g ∧
    ((gK g b = 7 ∧ c = [1, gI g b 0]) ∨
     (gK g b = 8 ∧ ∃ w v, gI g b 0 = nI w ∧ nm[w]? = some v ∧ c = [2, v]) ∨
     (gK g b = 9 ∧ ∃ b' c', gR g b 0 = b' + 1 ∧ FL nm g ρ n b' c' ∧ c = c' ++ [3]) ∨
     (gK g b = 6 ∧ ∃ l sb x0 c0, ∃ ps : List (Nat × List Int32 × Int32), gR g b 0 = l + 1 ∧ LiP g ρ 0 l (x0 :: ps.map (fun p => p.1)) ∧ gR g b 1 = sb + 1 ∧ SbP g ρ 0 sb (ps.map (fun p => p.2.2)) ∧ FL nm g ρ n x0 c0 ∧ (∀ p ∈ ps, FL nm g ρ n p.1 p.2.1 ∧ okS p.2.2) ∧ c = c0 ++ (ps.map (fun p => p.2.1 ++ [opc p.2.2])).flatten))
theorem FL.kind {nm : List Int32} {g : GS} {ρ : Nat → Nat} {n b : Nat} {c : List Int32} (h : FL nm g ρ n b c) : g_isF (gK g b) = true ∧ g_sto (gK g b % 1000) = true ∧ b < gz g ∧ ρ b = 0 ∧ (gK g b = 6 ∨ gK g b = 7 ∨ gK g b = 8 ∨ gK g b = 9) := by
  cases n with
  | zero => exact h.elim
  | succ n =>
    obtain ⟨h0, h1, h⟩ := h
    rcases h with ⟨k, -⟩ | ⟨k, -⟩ | ⟨k, -⟩ | ⟨k, -⟩ <;> rw [k] <;> exact ⟨rfl, rfl, h1, h0, by decide⟩
theorem FL.len {nm : List Int32} {g : GS} {ρ : Nat → Nat} : ∀ {n b : Nat} {c : List Int32}, FL nm g ρ n b c → 2 ≤ c.length := by
  intro n
  induction n with
  | zero => intro b c h; exact h.elim
  | succ n ih =>
    intro b c h
    obtain ⟨h0, h1, h⟩ := h
    rcases h with ⟨_, k⟩ | ⟨_, w, v, _, _, k⟩ | ⟨_, b', c', _, k, k2⟩ | ⟨_, l, sb, x0, c0, ps, _, _, _, _, k, _, k2⟩
    · rw [k]; exact Nat.le_refl _
    · rw [k]; exact Nat.le_refl _
    · rw [k2, List.length_append]
      have := ih k
      omega
    · rw [k2, List.length_append]
      have := ih k
      omega
theorem FL.mono {nm : List Int32} {g : GS} {ρ : Nat → Nat} : ∀ {n b : Nat} {c : List Int32}, FL nm g ρ n b c → FL nm g ρ (n + 1) b c := by
  intro n
  induction n with
  | zero => intro b c h; exact h.elim
  | succ n ih =>
    intro b c h
    obtain ⟨h0, h1, h⟩ := h
    refine ⟨h0, h1, ?_⟩
    rcases h with k | k | ⟨k0, b', c', k1, k, k2⟩ | ⟨k0, l, sb, x0, c0, ps, k1, k2, k3, k4, k5, k6, k7⟩
    · exact Or.inl k
    · exact Or.inr (Or.inl k)
    · exact Or.inr (Or.inr (Or.inl ⟨k0, b', c', k1, ih k, k2⟩))
    · exact Or.inr (Or.inr (Or.inr ⟨k0, l, sb, x0, c0, ps, k1, k2, k3, k4, ih k5, fun p hp => ⟨ih (k6 p hp).1, (k6 p hp).2⟩, k7⟩))
theorem FL.le {nm : List Int32} {g : GS} {ρ : Nat → Nat} {n n' b : Nat} {c : List Int32} (h : FL nm g ρ n b c) (hn : n ≤ n') : FL nm g ρ n' b c := by
  obtain ⟨d, rfl⟩ := Nat.exists_eq_add_of_le hn
  clear hn
  induction d with
  | zero => exact h
  | succ d ih => exact ih.mono
theorem FL.to {nm : List Int32} {W : Nat → Prop} {g g' : GS} {ρ ρ' : Nat → Nat} (hF : Fr W g g') (hA : ∀ q, q < gz g → ρ q = 0 → ρ' q = 0) (hW : ∀ q, q < gz g → ρ q = 0 → ¬ W q) : ∀ {n b : Nat} {c : List Int32}, FL nm g ρ n b c → FL nm g' ρ' n b c := by
  intro n
  induction n with
  | zero => intro b c h; exact h.elim
  | succ n ih =>
    intro b c h
    obtain ⟨h0, h1, h⟩ := h
    have hb := hW b h1 h0
    refine ⟨hA b h1 h0, hF.lt h1, ?_⟩
    rw [hF.K h1, hF.I h1 hb, hF.R h1 hb, hF.R h1 hb]
    rcases h with k | k | ⟨k0, b', c', k1, k, k2⟩ | ⟨k0, l, sb, x0, c0, ps, k1, k2, k3, k4, k5, k6, k7⟩
    · exact Or.inl k
    · exact Or.inr (Or.inl k)
    · exact Or.inr (Or.inr (Or.inl ⟨k0, b', c', k1, ih k, k2⟩))
    · refine Or.inr (Or.inr (Or.inr ⟨k0, l, sb, x0, c0, ps, k1, ?_, k3, ?_, ih k5, fun p hp => ⟨ih (k6 p hp).1, (k6 p hp).2⟩, k7⟩))
      · exact k2.to' hF (fun q hq k => by rw [hA q hq (k.elim id id), k.elim id id]) (fun q hq k => hW q hq (k.elim id id))
      · exact k4.to hF hA hW
/-! reckoning -/
def rk_b : Int32 × Int32 × MS → Option ((Int32 × Int32 × MS) ⊕ MS) := fun a => X4_reckons_b4 a.1 a.2.1 a.2.2
/-- the code c, wherever it lies, leaves r on the pile -/
def EvM (T : Nat → Int32) (c : List Int32) (r : Int32) : Prop :=
  ∀ (σ : MS) (k m : Nat), CodeAt (m_A σ 13) k c → k + c.length ≤ 4200 → 2 * m + c.length ≤ 1900 → (∀ u, u < 8 → m_A σ 57 u = T u) → ∃ i σ', i ≤ c.length ∧ LS_ rk_b i (nI m, nI k, σ) (nI (m + 1), nI (k + c.length), σ') ∧ Mf [] [58] σ σ' ∧ m_A σ' 58 m = r ∧ ∀ q, q < m → m_A σ' 58 q = m_A σ 58 q
theorem nI_m1 (n : Nat) : nI (n + 1) + (-1) = nI n := by
  rw [nI_succ, Int32.add_assoc]
  show nI n + (1 + -1) = nI n
  rw [show ((1 : Int32) + -1) = 0 from by decide, Int32.add_zero]
theorem rk_push {σ : MS} {k m : Nat} (hk : k + 1 < 4200) (hm : m < 950) (h1 : m_A σ 13 k = 1) : rk_b (nI m, nI k, σ) = some (.inl (nI (m + 1), nI (k + 2), s_A σ 58 m (m_A σ 13 (k + 1)))) := by
  show X4_reckons_b4 (nI m) (nI k) σ = _
  unfold X4_reckons_b4 X4_reckons_j36 X4_reckons_j67 X4_reckons_j140
  rw [e_inN (by omega) (by omega), nI_clamp (by omega), h1, if_neg (by decide), e_inN (by omega) (by omega), if_pos rfl, nI_1, if_pos rfl, e_inN (by omega) (by omega), nI_clamp (by omega), e_inN (by omega) (by omega), nI_clamp (by omega), nI_1, nI_1]
theorem rk_val {σ : MS} {k m u : Nat} (hk : k + 1 < 4200) (hm : m < 950) (h1 : m_A σ 13 k = 2) (h2 : m_A σ 13 (k + 1) = nI u) (hu : u < 8) : rk_b (nI m, nI k, σ) = some (.inl (nI (m + 1), nI (k + 2), s_A σ 58 m (m_A σ 57 u))) := by
  show X4_reckons_b4 (nI m) (nI k) σ = _
  unfold X4_reckons_b4 X4_reckons_j36 X4_reckons_j67 X4_reckons_j140
  rw [e_inN (by omega) (by omega), nI_clamp (by omega), h1, if_neg (by decide), e_inN (by omega) (by omega), if_neg (by decide), if_pos rfl, nI_1, if_neg (by decide), e_inN (by omega) (by omega), nI_clamp (by omega), h2, e_inN (by omega) (by omega), nI_clamp (by omega), e_inN (by omega) (by omega), nI_clamp (by omega), nI_1, nI_1]
theorem rk_no {σ : MS} {k m : Nat} (hk : k < 4200) (hm : m < 950) (h1 : m_A σ 13 k = 3) : rk_b (nI (m + 1), nI k, σ) = some (.inl (nI (m + 1), nI (k + 1), s_A σ 58 m (if m_A σ 58 m = 0 then 1 else 0))) := by
  show X4_reckons_b4 (nI (m + 1)) (nI k) σ = _
  unfold X4_reckons_b4 X4_reckons_j106 X4_reckons_j140
  rw [e_inN (by omega) (by omega), nI_clamp (by omega), h1, if_neg (by decide), e_inN (by omega) (by omega), if_neg (by decide), if_neg (by decide), if_pos rfl, nI_pred, e_inN (by omega) (by omega), nI_clamp (by omega), nI_1]
  split <;> rw [e_inN (by omega) (by omega)]
theorem rk_op {σ : MS} {k m : Nat} {s v : Int32} (hk : k < 4200) (hm : m + 1 < 950) (hs : okS s) (h1 : m_A σ 13 k = opc s) (hv : X4_works (opc s) (m_A σ 58 m) (m_A σ 58 (m + 1)) = some v) : rk_b (nI (m + 2), nI k, σ) = some (.inl (nI (m + 1), nI (k + 1), s_A σ 58 m v)) := by
  show X4_reckons_b4 (nI (m + 2)) (nI k) σ = _
  have hne : opc s ≠ 0 ∧ opc s ≠ 1 ∧ opc s ≠ 2 ∧ opc s ≠ 3 := by
    rcases hs with rfl | rfl | rfl | rfl | rfl | rfl | rfl | rfl <;> decide
  unfold X4_reckons_b4 X4_reckons_j140
  rw [e_inN (by omega) (by omega), nI_clamp (by omega), h1, if_neg hne.1, e_inN (by omega) (by omega), if_neg hne.2.1, if_neg hne.2.2.1, if_neg hne.2.2.2, nI_m1 (m + 1), nI_pred, e_inN (by omega) (by omega), e_inN (by omega) (by omega), nI_clamp (by omega), nI_clamp (by omega), hv, e_ob, e_inN (by omega) (by omega), nI_1]
/-- the last sign of a code reckons the two uppermost -/
theorem EvM.op {T : Nat → Int32} {c : List Int32} {r : Int32} (h : EvM T c r) {s : Int32} (hs : okS s) {σ : MS} {k m : Nat} (hC : CodeAt (m_A σ 13) k (c ++ [opc s])) (hk : k + c.length + 1 ≤ 4200) (hm : 2 * (m + 1) + c.length ≤ 1900) (hT : ∀ u, u < 8 → m_A σ 57 u = T u) {v : Int32} (hv : X4_works (opc s) (m_A σ 58 m) r = some v) (h2 : 2 ≤ c.length) :
    ∃ i σ', i ≤ c.length + 1 ∧ LS_ rk_b i (nI (m + 1), nI k, σ) (nI (m + 1), nI (k + c.length + 1), σ') ∧ Mf [] [58] σ σ' ∧ m_A σ' 58 m = v ∧ ∀ q, q < m → m_A σ' 58 q = m_A σ 58 q := by
  obtain ⟨i, σ1, a1, a2, a3, a4, a5⟩ := h σ k (m + 1) hC.left (by omega) hm hT
  have hb := rk_op (σ := σ1) (k := k + c.length) (m := m) (s := s) (v := v) (by omega) (by omega) hs (by rw [a3.A (by decide)]; exact hC.right.one) (by rw [a4, a5 m (by omega)]; exact hv)
  refine ⟨i + 1, s_A σ1 58 m v, by omega, a2.trans (LS_.one hb), a3.trans (Mf.sA (by decide)) (fun _ k => k) (fun _ k => k), ?_, fun q hq => ?_⟩
  · rw [rA_sA, if_pos ⟨rfl, rfl⟩]
  · rw [rA_sA, if_neg (by rintro ⟨-, k⟩; omega), a5 q (by omega)]
theorem X10_of_l {g : GS} {n b b' v : Nat} {r : Int32} (hk : gK g b = 9) (hR : gR g b 0 = b' + 1) (h : Fof_ n b' v g = some r) : X10_of (Fof_ n) b v g = some (if r = 0 then 1 else 0) := by
  unfold X10_of
  rw [e_wk hk, hR, e_nn, h, e_ob]
  split <;> rfl
/-- a form's value: in the heap and of its code -/
theorem ev_l {nm : List Int32} {g : GS} {ρ : Nat → Nat} {v : Nat} {T : Nat → Int32} (hS : ∃ d, gS g 5 = d + 1) (hv : gK g v % 1000 = 100) (hN : nm.length ≤ gN g v ∧ gN g v ≤ 2000) (hnm : ∀ w x, nm[w]? = some x → ∃ u, u < 8 ∧ x = nI u ∧ gI g v w = T u) :
    ∀ n b c, FL nm g ρ n b c → ∃ r, Fof_ n b v g = some r ∧ EvM T c r := by
  intro n
  induction n with
  | zero => intro b c h; exact h.elim
  | succ n ih =>
    intro b c h
    obtain ⟨h0, h1, h⟩ := h
    rcases h with ⟨k, hc⟩ | ⟨k, w, x, kw, kx, hc⟩ | ⟨k, b', c', kb, kf, hc⟩ | ⟨k, l, sb, x0, c0, ps, k1, k2, k3, k4, k5, k6, hc⟩
    · refine ⟨gI g b 0, ?_, ?_⟩
      · unfold Fof_
        rw [if_neg (by omega), if_pos k]
        unfold X8_of
        rw [e_wk k]
      · subst hc
        intro σ kk m hC hk hm hT
        have hk' : kk + 2 ≤ 4200 := hk
        have hm' : 2 * m + 2 ≤ 1900 := hm
        have e1 : m_A σ 13 (kk + 1) = gI g b 0 := hC.tail.one
        refine ⟨1, _, Nat.le_succ _, LS_.one (rk_push (by omega) (by omega) hC.one), Mf.sA (by decide), ?_, fun q hq => ?_⟩
        · rw [rA_sA, if_pos ⟨rfl, rfl⟩, e1]
        · rw [rA_sA, if_neg (by rintro ⟨-, k⟩; omega)]
    · obtain ⟨u, u1, u2, u3⟩ := hnm w x kx
      have hw := (List.getElem?_eq_some_iff.mp kx).1
      refine ⟨T u, ?_, ?_⟩
      · unfold Fof_
        rw [if_neg (by omega), if_neg (by omega), if_pos k]
        unfold X9_of
        rw [e_wk k, e_rk hv, kw, e_inN (by omega) (by omega), nI_clamp (by omega), u3]
      · subst hc
        intro σ kk m hC hk hm hT
        have hk' : kk + 2 ≤ 4200 := hk
        have hm' : 2 * m + 2 ≤ 1900 := hm
        have e1 : m_A σ 13 (kk + 1) = nI u := by rw [← u2]; exact hC.tail.one
        refine ⟨1, _, Nat.le_succ _, LS_.one (rk_val (by omega) (by omega) hC.one e1 u1), Mf.sA (by decide), ?_, fun q hq => ?_⟩
        · rw [rA_sA, if_pos ⟨rfl, rfl⟩, hT u u1]
        · rw [rA_sA, if_neg (by rintro ⟨-, k⟩; omega)]
    · obtain ⟨r, r1, r2⟩ := ih b' c' kf
      have hl := kf.len
      refine ⟨if r = 0 then 1 else 0, ?_, ?_⟩
      · unfold Fof_
        rw [if_neg (by omega), if_neg (by omega), if_neg (by omega), if_pos k, X10_of_l k kb r1]
      · subst hc
        intro σ kk m hC hk hm hT
        rw [List.length_append] at hk hm
        have hk' : kk + (c'.length + 1) ≤ 4200 := hk
        have hm' : 2 * m + (c'.length + 1) ≤ 1900 := hm
        obtain ⟨i, σ1, a1, a2, a3, a4, a5⟩ := r2 σ kk m hC.left (by omega) (by omega) hT
        have hb := rk_no (σ := σ1) (k := kk + c'.length) (m := m) (by omega) (by omega) (by rw [a3.A (by decide)]; exact hC.right.one)
        refine ⟨i + 1, s_A σ1 58 m (if m_A σ1 58 m = 0 then 1 else 0), by rw [List.length_append]; show i + 1 ≤ c'.length + 1; omega, ?_, a3.trans (Mf.sA (by decide)) (fun _ k => k) (fun _ k => k), ?_, fun q hq => ?_⟩
        · have := a2.trans (LS_.one hb)
          rw [List.length_append, ← Nat.add_assoc]
          exact this
        · rw [rA_sA, if_pos ⟨rfl, rfl⟩, a4]
        · rw [rA_sA, if_neg (by rintro ⟨-, k⟩; omega), a5 q hq]
    · obtain ⟨r0, r1, r2⟩ := ih x0 c0 k5
      have hl0 := k5.len
      have hlen := k2.len
      rw [List.length_cons, List.length_map] at hlen
      have suff : ∀ (rest : List (Nat × List Int32 × Int32)) (j : Nat) (a : Int32), ps.drop j = rest → j ≤ ps.length → ∃ r, (∀ fuel, rest.length < fuel → lp_ (fun a : Int32 × Int32 => X7_of_b22 (Fof_ n) b v g a.1 a.2) fuel (a, nI (j + 1)) = some r) ∧
          ∀ (σ : MS) (k m : Nat), CodeAt (m_A σ 13) k (rest.map (fun p => p.2.1 ++ [opc p.2.2])).flatten → k + (rest.map (fun p => p.2.1 ++ [opc p.2.2])).flatten.length ≤ 4200 → 2 * (m + 1) + (rest.map (fun p => p.2.1 ++ [opc p.2.2])).flatten.length ≤ 1900 → (∀ u, u < 8 → m_A σ 57 u = T u) → m_A σ 58 m = a →
            ∃ i σ', i ≤ (rest.map (fun p => p.2.1 ++ [opc p.2.2])).flatten.length ∧ LS_ rk_b i (nI (m + 1), nI k, σ) (nI (m + 1), nI (k + (rest.map (fun p => p.2.1 ++ [opc p.2.2])).flatten.length), σ') ∧ Mf [] [58] σ σ' ∧ m_A σ' 58 m = r ∧ ∀ q, q < m → m_A σ' 58 q = m_A σ 58 q := by
        intro rest
        induction rest with
        | nil =>
          intro j a hd hj
          have hjl : j = ps.length := by
            have := congrArg List.length hd
            rw [List.length_drop] at this
            simp at this
            omega
          refine ⟨a, fun fuel hf => ?_, fun σ k m _ _ _ _ ha => ⟨0, σ, Nat.le_refl _, LS_.rf, Mf.rf, ha, fun _ _ => rfl⟩⟩
          obtain ⟨f, rfl⟩ : ∃ f, fuel = f + 1 := ⟨fuel - 1, by simp at hf; omega⟩
          apply lp_end
          show X7_of_b22 (Fof_ n) b v g a (nI (j + 1)) = _
          unfold X7_of_b22
          rw [e_wk k, k1, e_nn, e_wk k2.K, J2_size_l k2, e_ob, List.length_cons, List.length_map, if_pos (nI_le (by omega) (by omega))]
        | cons p rest ihr =>
          intro j a hd hj
          have hjl : j < ps.length := by
            have := congrArg List.length hd
            rw [List.length_drop] at this
            simp at this
            omega
          have hp : ps[j]? = some p := by
            have h9 := List.getElem?_drop (xs := ps) (i := j) (j := 0)
            rw [hd] at h9
            exact h9.symm
          have hd' : ps.drop (j + 1) = rest := by
            have h9 : (ps.drop j).drop 1 = rest := by rw [hd]; rfl
            rw [List.drop_drop] at h9
            exact h9
          have hmem : p ∈ ps := List.mem_of_getElem? hp
          obtain ⟨q1, q2⟩ := k6 p hmem
          obtain ⟨rp, s1, s2⟩ := ih p.1 p.2.1 q1
          obtain ⟨va, b1, b2⟩ := by_works (s := p.2.2) (a := a) (b := rp) q2
          obtain ⟨rr, c1, c2⟩ := ihr (j + 1) va hd' (by omega)
          have hlp := q1.len
          have hg1 : (x0 :: ps.map (fun p => p.1))[j + 1]? = some p.1 := by
            rw [List.getElem?_cons_succ, List.getElem?_map, hp]; rfl
          have hg2 : (ps.map (fun p => p.2.2))[j]? = some p.2.2 := by rw [List.getElem?_map, hp]; rfl
          refine ⟨rr, fun fuel hf => ?_, fun σ kk m hC hk hm hT ha => ?_⟩
          · obtain ⟨f, rfl⟩ : ∃ f, fuel = f + 1 := ⟨fuel - 1, by omega⟩
            rw [List.length_cons] at hf
            have hb : (fun a : Int32 × Int32 => X7_of_b22 (Fof_ n) b v g a.1 a.2) (a, nI (j + 1)) = some (.inl (va, nI (j + 2))) := by
              show X7_of_b22 (Fof_ n) b v g a (nI (j + 1)) = _
              unfold X7_of_b22
              rw [e_wk k, k1, e_nn, e_wk k2.K, J2_size_l k2, e_ob, List.length_cons, List.length_map, if_neg (nI_ge (by omega) (by omega)), k3, e_nn, e_wk k4.1, nI_pred, J14_charAt_l k4 hS hg2 q2, e_ob, e_nn, e_wk k2.K, J2_get_l k2 hg1, e_ob, q1.kind.1, e_gd, s1, e_ob, b1, e_ob, nI_1]
            rw [lp_next hb]
            exact c1 f (by omega)
          · rw [List.map_cons, List.flatten_cons] at hC hk hm ⊢
            rw [List.length_append, List.length_append] at hk hm
            have e1 : [opc p.2.2].length = 1 := rfl
            rw [e1] at hk hm
            obtain ⟨i1, σ1, d1, d2, d3, d4, d5⟩ := s2.op q2 (σ := σ) (k := kk) (m := m) hC.left (by omega) (by omega) hT (by rw [ha]; exact b2) hlp
            have hC2 := hC.right
            rw [List.length_append, e1, ← Nat.add_assoc] at hC2
            obtain ⟨i2, σ2, f1, f2, f3, f4, f5⟩ := c2 σ1 (kk + p.2.1.length + 1) m (by rw [d3.Af (by decide)]; exact hC2) (by omega) (by omega) (fun u hu => by rw [d3.A (by decide)]; exact hT u hu) d4
            refine ⟨i1 + i2, σ2, ?_, ?_, d3.trans f3 (fun _ k => k) (fun _ k => k), f4, fun q hq => by rw [f5 q hq, d5 q hq]⟩
            · rw [List.length_append, List.length_append, e1]
              omega
            · have := d2.trans f2
              rw [List.length_append, List.length_append, e1]
              rw [show kk + (p.2.1.length + 1 + (rest.map (fun p => p.2.1 ++ [opc p.2.2])).flatten.length) = kk + p.2.1.length + 1 + (rest.map (fun p => p.2.1 ++ [opc p.2.2])).flatten.length by omega]
              exact this
      obtain ⟨r, t1, t2⟩ := suff ps 0 r0 rfl (Nat.zero_le _)
      refine ⟨r, ?_, ?_⟩
      · unfold Fof_
        rw [if_pos k]
        unfold X7_of
        rw [e_wk k, k1, e_nn, e_wk k2.K, show (0 : Int32) = nI 0 from rfl, J2_get_l k2 (i := 0) rfl, e_ob, k5.kind.1, e_gd, r1, e_ob, show (1 : Int32) = nI (0 + 1) from rfl, t1 fu_ (by unfold fu_; omega), e_ob]
      · subst hc
        intro σ kk m hC hk hm hT
        rw [List.length_append] at hk hm
        obtain ⟨i1, σ1, d1, d2, d3, d4, d5⟩ := r2 σ kk m hC.left (by omega) (by omega) hT
        obtain ⟨i2, σ2, f1, f2, f3, f4, f5⟩ := t2 σ1 (kk + c0.length) m (by rw [d3.Af (by decide)]; exact hC.right) (by omega) (by omega) (fun u hu => by rw [d3.A (by decide)]; exact hT u hu) d4
        refine ⟨i1 + i2, σ2, by rw [List.length_append]; omega, ?_, d3.trans f3 (fun _ k => k) (fun _ k => k), f4, fun q hq => by rw [f5 q hq, d5 q hq]⟩
        have := d2.trans f2
        rw [List.length_append, ← Nat.add_assoc]
        exact this
end
section
/-! LAWS: what both reckon with; turnOf (own work) -/
set_option maxRecDepth 100000
theorem e_i0 {β : Type} {n : Nat} {K : Option β} (h : 0 < n) (hn : n < 2 ^ 31) : in_ 0 n K = K := e_inN (i := 0) h hn
theorem e_i1 {β : Type} {n : Nat} {K : Option β} (h : 1 < n) (hn : n < 2 ^ 31) : in_ 1 n K = K := e_inN (i := 1) h hn
theorem e_i2 {β : Type} {n : Nat} {K : Option β} (h : 2 < n) (hn : n < 2 ^ 31) : in_ 2 n K = K := e_inN (i := 2) h hn
theorem e_i3 {β : Type} {n : Nat} {K : Option β} (h : 3 < n) (hn : n < 2 ^ 31) : in_ 3 n K = K := e_inN (i := 3) h hn
theorem e_i4 {β : Type} {n : Nat} {K : Option β} (h : 4 < n) (hn : n < 2 ^ 31) : in_ 4 n K = K := e_inN (i := 4) h hn
theorem e_i5 {β : Type} {n : Nat} {K : Option β} (h : 5 < n) (hn : n < 2 ^ 31) : in_ 5 n K = K := e_inN (i := 5) h hn
theorem e_i6 {β : Type} {n : Nat} {K : Option β} (h : 6 < n) (hn : n < 2 ^ 31) : in_ 6 n K = K := e_inN (i := 6) h hn
theorem e_i7 {β : Type} {n : Nat} {K : Option β} (h : 7 < n) (hn : n < 2 ^ 31) : in_ 7 n K = K := e_inN (i := 7) h hn
def RuleP (nm : List Int32) (g : GS) (ρ : Nat → Nat) (A : Nat → Int32) (ref : Nat) (pos : Int32) : Prop :=
  (ref = 0 ∧ pos = -1) ∨ ∃ b c k, ref = b + 1 ∧ FL nm g ρ 150 b c ∧ pos = nI k ∧ CodeAt A k (c ++ [0]) ∧ k + c.length + 1 ≤ 4200 ∧ c.length ≤ 1900
theorem RuleP.to {nm : List Int32} {W : Nat → Prop} {g g' : GS} {ρ ρ' : Nat → Nat} {A : Nat → Int32} {ref : Nat} {pos : Int32} (h : RuleP nm g ρ A ref pos) (hF : Fr W g g') (hA : ∀ q, q < gz g → ρ q = 0 → ρ' q = 0) (hW : ∀ q, q < gz g → ρ q = 0 → ¬ W q) : RuleP nm g' ρ' A ref pos := by
  rcases h with h | ⟨b, c, k, h1, h2, h3⟩
  · exact Or.inl h
  · exact Or.inr ⟨b, c, k, h1, h2.to hF hA hW, h3⟩
/-- the hands' forms -/
def HdP (g : GS) (ρ : Nat → Nat) (sc h : Nat) (A12 A13 : Nat → Int32) : Prop := ∃ l xs, gR g sc 2 = l + 1 ∧ LiP g ρ 0 l xs ∧ xs.length = h ∧ ∀ i y, xs[i]? = some y → RuleP [0, 1, 2, 3, 4] g ρ A13 (y + 1) (A12 i)
/-- the scene: n moves, k changes, h hands -/
def ScP (g : GS) (ρ : Nat → Nat) (sc n k h : Nat) (σ : MS) : Prop :=
  (gK g sc = 2 ∧ ρ sc = 0 ∧ sc < gz g ∧ gI g sc 5 = m_I σ 1 ∧ gI g sc 6 = sm_ (m_A σ 9) n) ∧ ((m_I σ 2 = nI n ∧ n ≤ 12) ∧ (m_I σ 3 = nI k ∧ k ≤ 6) ∧ (m_I σ 5 = nI h ∧ h ≤ 4)) ∧
  (PlP g ρ 0 sc 0 n (m_A σ 8) (m_A σ 9) ∧ PlP g ρ 0 sc 1 k (m_A σ 10) (m_A σ 11) ∧ HdP g ρ sc h (m_A σ 12) (m_A σ 13)) ∧ (RuleP [5] g ρ (m_A σ 13) (gR g sc 3) (m_I σ 6) ∧ RuleP [6, 7, 5] g ρ (m_A σ 13) (gR g sc 4) (m_I σ 7)) ∧
  (mvN (m_A σ 8) (m_A σ 9) n ∧ chN (m_A σ 10) (m_A σ 11) k ∧ (12 ≤ (m_I σ 1).toInt ∧ (m_I σ 1).toInt ≤ 480) ∧ (sm_ (m_A σ 9) n).toInt ≤ 600)
theorem HdP.to {W : Nat → Prop} {g g' : GS} {ρ ρ' : Nat → Nat} {sc h : Nat} {A12 A13 : Nat → Int32} (hp : HdP g ρ sc h A12 A13) (hs : sc < gz g) (hsW : ¬ W sc) (hF : Fr W g g') (hA : ∀ q, q < gz g → ρ q = 0 → ρ' q = 0) (hW : ∀ q, q < gz g → ρ q = 0 → ¬ W q) : HdP g' ρ' sc h A12 A13 := by
  obtain ⟨l, xs, h1, h2, h3, h4⟩ := hp
  exact ⟨l, xs, by rw [hF.R hs hsW, h1], h2.to' hF (fun q hq k => by rw [hA q hq (k.elim id id), k.elim id id]) (fun q hq k => hW q hq (k.elim id id)), h3, fun i y hy => (h4 i y hy).to hF hA hW⟩
theorem ScP.to {W : Nat → Prop} {LI LA : List Nat} {g g' : GS} {ρ ρ' : Nat → Nat} {sc n k h : Nat} {σ σ' : MS} (hp : ScP g ρ sc n k h σ) (hF : Fr W g g') (hA : ∀ q, q < gz g → ρ q = 0 → ρ' q = 0) (hW : ∀ q, q < gz g → ρ q = 0 → ¬ W q) (hM : Mf LI LA σ σ') (h1 : 1 ∉ LI ∧ 2 ∉ LI ∧ 3 ∉ LI ∧ 5 ∉ LI ∧ 6 ∉ LI ∧ 7 ∉ LI) (h2 : 8 ∉ LA ∧ 9 ∉ LA ∧ 10 ∉ LA ∧ 11 ∉ LA ∧ 12 ∉ LA ∧ 13 ∉ LA) : ScP g' ρ' sc n k h σ' := by
  obtain ⟨⟨a1, a2, a3, a4, a5⟩, ⟨⟨b1, b2⟩, ⟨b3, b4⟩, b5, b6⟩, ⟨c1, c2, c3⟩, ⟨d1, d2⟩, e1, e2, e3, e4⟩ := hp
  obtain ⟨i1, i2, i3, i5, i6, i7⟩ := h1
  obtain ⟨j8, j9, j10, j11, j12, j13⟩ := h2
  have hsc := hW sc a3 a2
  have hA' : ∀ q, q < gz g → ρ q = 0 ∨ ρ q = 0 → ρ' q = ρ q := fun q hq k => by rw [hA q hq (k.elim id id), k.elim id id]
  have pl : ∀ {fld m : Nat} {f f' : Nat → Int32}, PlP g ρ 0 sc fld m f f' → PlP g' ρ' 0 sc fld m f f' := by
    intro fld m f f' hp
    obtain ⟨l, xs, p1, p2, p3, p4⟩ := hp
    refine ⟨l, xs, by rw [hF.R a3 hsc, p1], p2.to' hF hA' (fun q hq k => hW q hq (k.elim id id)), p3, fun i y hy => ?_⟩
    obtain ⟨q1, q2, q3, q4, q5, q6⟩ := p4 i y hy
    have hy' := hW y q6 q3
    exact ⟨by rw [hF.K q6, q1], by rw [hF.N q6, q2], hA y q6 q3, by rw [hF.I q6 hy', q4], by rw [hF.I q6 hy', q5], hF.lt q6⟩
  refine ⟨⟨by rw [hF.K a3, a1], hA sc a3 a2, hF.lt a3, by rw [hF.I a3 hsc, a4, hM.I i1], by rw [hF.I a3 hsc, a5, hM.Af j9]⟩, ⟨⟨by rw [hM.I i2, b1], b2⟩, ⟨by rw [hM.I i3, b3], b4⟩, by rw [hM.I i5, b5], b6⟩, ⟨?_, ?_, ?_⟩, ⟨?_, ?_⟩, ?_, ?_, ?_, ?_⟩
  · rw [hM.Af j8, hM.Af j9]; exact pl c1
  · rw [hM.Af j10, hM.Af j11]; exact pl c2
  · rw [hM.Af j12, hM.Af j13]; exact c3.to a3 hsc hF hA hW
  · rw [hM.Af j13, hM.I i6, hF.R a3 hsc]; exact d1.to hF hA hW
  · rw [hM.Af j13, hM.I i7, hF.R a3 hsc]; exact d2.to hF hA hW
  · rw [hM.Af j8, hM.Af j9]; exact e1
  · rw [hM.Af j10, hM.Af j11]; exact e2
  · rw [hM.I i1]; exact e3
  · rw [hM.Af j9]; exact e4
/-- what both reckon with: the object a, its scene sc, its values v -/
def CW (g : GS) (ρ : Nat → Nat) (a sc v n k h : Nat) (σ : MS) : Prop :=
  (gK g a = 1 ∧ ρ a = 1 ∧ a < gz g ∧ gR g a 0 = sc + 1 ∧ gR g a 2 = v + 1) ∧ (gK g v = 100 ∧ gN g v = 5 ∧ ρ v = 6 ∧ v < gz g) ∧ (∃ d, gS g 5 = d + 1) ∧ ScP g ρ sc n k h σ
theorem CW.to {W : Nat → Prop} {LI LA : List Nat} {g g' : GS} {ρ ρ' : Nat → Nat} {a sc v n k h : Nat} {σ σ' : MS} (hp : CW g ρ a sc v n k h σ) (hF : Fr W g g') (hA : Ag g ρ ρ') (hW : ∀ q, q < gz g → ρ q = 0 → ¬ W q) (ha : gR g' a 0 = gR g a 0 ∧ gR g' a 2 = gR g a 2) (hM : Mf LI LA σ σ') (h1 : 1 ∉ LI ∧ 2 ∉ LI ∧ 3 ∉ LI ∧ 5 ∉ LI ∧ 6 ∉ LI ∧ 7 ∉ LI) (h2 : 8 ∉ LA ∧ 9 ∉ LA ∧ 10 ∉ LA ∧ 11 ∉ LA ∧ 12 ∉ LA ∧ 13 ∉ LA) : CW g' ρ' a sc v n k h σ' := by
  obtain ⟨⟨a1, a2, a3, a4, a5⟩, ⟨b1, b2, b3, b4⟩, ⟨d, hd⟩, hs⟩ := hp
  exact ⟨⟨by rw [hF.K a3, a1], by rw [hA a a3, a2], hF.lt a3, by rw [ha.1, a4], by rw [ha.2, a5]⟩, ⟨by rw [hF.K b4, b1], by rw [hF.N b4, b2], by rw [hA v b4, b3], hF.lt b4⟩, ⟨d, by rw [hF.S, hd]⟩, hs.to hF (fun q hq k => by rw [hA q hq, k]) hW hM h1 h2⟩
/-- a whole code reckoned -/
theorem reck_l {T : Nat → Int32} {c : List Int32} {r : Int32} (h : EvM T c r) {σ : MS} {k : Nat} (hC : CodeAt (m_A σ 13) k (c ++ [0])) (hk : k + c.length + 1 ≤ 4200) (hc : c.length ≤ 1900) (hT : ∀ u, u < 8 → m_A σ 57 u = T u) : ∃ σ', X4_reckons (nI k) σ = some (r, σ') ∧ Mf [] [58] σ σ' := by
  obtain ⟨i, σ1, a1, a2, a3, a4, -⟩ := h σ k 0 hC.left (by omega) (by omega) hT
  refine ⟨σ1, ?_, a3⟩
  have hend : rk_b (nI 1, nI (k + c.length), σ1) = some (.inr σ1) := by
    show X4_reckons_b4 (nI 1) (nI (k + c.length)) σ1 = _
    unfold X4_reckons_b4
    rw [e_inN (by omega) (by omega), nI_clamp (by omega), a3.A (by decide), hC.right.one, if_pos rfl]
  obtain ⟨f, hf⟩ : ∃ f, fu_ = (f + 1) + i := ⟨fu_ - 1 - i, by unfold fu_; omega⟩
  have hrun : lp_ rk_b fu_ (nI 0, nI k, σ) = some σ1 := by
    rw [hf, a2 (f + 1)]
    exact lp_end hend f
  unfold X4_reckons
  have hrun' : lp_ (fun a : Int32 × Int32 × MS => X4_reckons_b4 a.1 a.2.1 a.2.2) fu_ (0, nI k, σ) = some σ1 := hrun
  rw [hrun', e_ob, e_in (by decide), cl_0, a4]
theorem turn_l {g : GS} {ρ : Nat → Nat} {a sc v n k h : Nat} {σ : MS} (hC : CW g ρ a sc v n k h σ) {x : Int32} (hx : 12 ≤ x.toInt ∧ x.toInt ≤ 480) :
    ∃ r g' σ', X1_turnOf a x g = some (r, g') ∧ X4_turnOf x σ = some (r, σ') ∧ Fr (fun q => q = v) g g' ∧ gz g' = gz g ∧ Mf [] [57, 58] σ σ' ∧ 0 ≤ r.toInt ∧ r.toInt ≤ 999 := by
  obtain ⟨⟨a1, a2, a3, a4, a5⟩, ⟨b1, b2, b3, b4⟩, hS, ⟨⟨s1, s2, s3, s4, s5⟩, -, -, ⟨d1, -⟩, -⟩⟩ := hC
  have hva : v ≠ a := by intro q; rw [q, a1] at b1; omega
  have hvs : v ≠ sc := by intro q; rw [q, s1] at b1; omega
  have hx0 : ¬ x = 0 := by intro q; rw [q, k_0] at hx; omega
  rcases d1 with ⟨e1, e2⟩ | ⟨b, c, kk, e1, e2, e3, e4, e5, e6⟩
  · refine ⟨4320 / x, g, σ, ?_, ?_, Fr.rf, rfl, Mf.rf, ?_⟩
    · unfold X1_turnOf
      rw [e_wk a1, a4, e_nn, e_wk s1, if_pos e1, e_dv hx0]
    · unfold X4_turnOf
      rw [if_pos e2, e_dv hx0]
    · have hne : x ≠ -1 := by intro q; rw [q, k_n1] at hx; omega
      rw [i_div hne, k_4320, Int.tdiv_eq_ediv_of_nonneg (by omega)]
      have h1 : (4320 : Int) / x.toInt ≤ 4320 / 12 := Int.ediv_le_of_le_mul (by omega) (by omega)
      have h2 : 0 ≤ (4320 : Int) / x.toInt := Int.ediv_nonneg (by omega) (by omega)
      omega
  · have hV : FL [5] (pI g v 0 x) ρ ff_ b c := (e2.le (by decide)).to (W := fun q => q = v) (Fr.pI rfl) (fun _ _ k => k) (fun q hq k k' => by rw [k', b3] at k; omega)
    obtain ⟨r, f1, f2⟩ := ev_l (g := pI g v 0 x) (v := v) (T := m_A (s_A σ 57 5 x) 57) hS (by rw [K_pI, b1]) (by rw [N_pI, b2]; exact ⟨by decide, by omega⟩) (fun w y hy => by
      match w, hy with
      | 0, hy =>
        cases hy
        refine ⟨5, by omega, rfl, ?_⟩
        rw [I_pI, if_pos ⟨rfl, rfl⟩, rA_sA, if_pos ⟨rfl, rfl⟩]
      | w + 1, hy => cases hy) ff_ b c hV
    obtain ⟨σ1, h1, h2⟩ := reck_l f2 (σ := s_A σ 57 5 x) (k := kk) e4 e5 e6 (fun _ _ => rfl)
    have hb := bd_rg (v := r) (a := 0) (b := 999) (by decide)
    rw [k_0, k_999] at hb
    refine ⟨bd_ r 0 999, pI g v 0 x, σ1, ?_, ?_, Fr.pI rfl, rfl, (Mf.sA (by decide)).trans h2 (fun _ k => k) (fun k hk => List.mem_cons_of_mem _ hk), hb⟩
    · unfold X1_turnOf
      rw [e_wk a1, a4, e_nn, e_wk s1, if_neg (by omega), a5, e_nn, e_wk b1, e_in (by rw [b2]; decide), cl_0, R_pI, a4, e_nn, e_wk (by exact s1), e1, e_nn, a5, e_nn, f1, e_ob, X1_kept_l (by decide), e_ob]
    · unfold X4_turnOf
      rw [e3, if_neg, e_in (by decide), cl_5, h1, e_cb, X4_bounded_l, e_ob]
      rw [i_eq, i_n (by omega), k_n1]
      omega
end
section
/-! LAWS: a take (own work) -/
set_option maxRecDepth 100000
def RowOK (S : Nat → Int32) (m h : Nat) : Prop := (1 ≤ (S 0).toInt ∧ (S 0).toInt ≤ 60) ∧ (0 ≤ (S 1).toInt ∧ (S 1).toInt ≤ 24) ∧ (1 ≤ (S 2).toInt ∧ (S 2).toInt ≤ 90) ∧ (-30 ≤ (S 3).toInt ∧ (S 3).toInt ≤ 30) ∧ (0 ≤ (S 4).toInt ∧ (S 4).toInt ≤ 200) ∧ (-1 ≤ (S 5).toInt ∧ (S 5).toInt < h) ∧ ∀ i, i < m → 12 ≤ (S (6 + i)).toInt ∧ (S (6 + i)).toInt ≤ 480
/-- an array of the take -/
def TaP (g : GS) (ρ : Nat → Nat) (q : Nat) : Prop := gK g q = 100 ∧ gN g q = 601 ∧ ρ q = 9 ∧ q < gz g
def TkP (g : GS) (ρ : Nat → Nat) (u a x sa ra oa : Nat) : Prop :=
  (gK g u = 10 ∧ ρ u = 9 ∧ u < gz g) ∧ (gR g u 0 = x + 1 ∧ gR g u 1 = sa + 1 ∧ gR g u 2 = ra + 1 ∧ gR g u 3 = oa + 1 ∧ gR g u 7 = a + 1) ∧ (TaP g ρ sa ∧ TaP g ρ ra ∧ TaP g ρ oa) ∧ sa ≠ ra ∧ sa ≠ oa ∧ ra ≠ oa
/-- the take's own numbers are the model's -/
def TnP (g : GS) (u : Nat) (σ : MS) : Prop := (gI g u 4 = m_I σ 59 ∧ 0 ≤ (m_I σ 59).toInt ∧ (m_I σ 59).toInt ≤ 100) ∧ (gI g u 5 = m_I σ 64 ∧ -24 ≤ (m_I σ 64).toInt ∧ (m_I σ 64).toInt ≤ 24) ∧ gI g u 6 = m_I σ 60 ∧ -24 ≤ (m_I σ 60).toInt ∧ (m_I σ 60).toInt ≤ 24
def StP (g : GS) (ρ : Nat → Nat) (r x m h : Nat) (σ : MS) : Prop := (r ≠ 6 ∧ r ≠ 9) ∧ SetP g ρ r x m (m_A σ 53) ∧ (m_I σ 4 = nI m ∧ m ≤ 6) ∧ RowOK (m_A σ 53) m h
def TW (g : GS) (ρ : Nat → Nat) (a sc v u x sa ra oa r m n k h : Nat) (σ : MS) : Prop := CW g ρ a sc v n k h σ ∧ TkP g ρ u a x sa ra oa ∧ TnP g u σ ∧ StP g ρ r x m h σ
/-- what a take writes -/
def tw_ (v sa ra oa : Nat) : Nat → Prop := fun q => q = v ∨ q = sa ∨ q = ra ∨ q = oa
theorem TaP.to {W : Nat → Prop} {g g' : GS} {ρ ρ' : Nat → Nat} {q : Nat} (h : TaP g ρ q) (hF : Fr W g g') (hA : Ag g ρ ρ') : TaP g' ρ' q := by
  obtain ⟨a, b, c, d⟩ := h
  exact ⟨by rw [hF.K d, a], by rw [hF.N d, b], by rw [hA q d, c], hF.lt d⟩
theorem TkP.to {W : Nat → Prop} {g g' : GS} {ρ ρ' : Nat → Nat} {u a x sa ra oa : Nat} (h : TkP g ρ u a x sa ra oa) (hF : Fr W g g') (hA : Ag g ρ ρ') (hu : ∀ i, gR g' u i = gR g u i) : TkP g' ρ' u a x sa ra oa := by
  obtain ⟨⟨a1, a2, a3⟩, ⟨b0, b1, b2, b3, b7⟩, ⟨c1, c2, c3⟩, d⟩ := h
  exact ⟨⟨by rw [hF.K a3, a1], by rw [hA u a3, a2], hF.lt a3⟩, ⟨by rw [hu, b0], by rw [hu, b1], by rw [hu, b2], by rw [hu, b3], by rw [hu, b7]⟩, ⟨c1.to hF hA, c2.to hF hA, c3.to hF hA⟩, d⟩
/-- what the take writes leaves all else -/
theorem TW.to {g g' : GS} {ρ : Nat → Nat} {a sc v u x sa ra oa r m n k h : Nat} {σ σ' : MS} (hT : TW g ρ a sc v u x sa ra oa r m n k h σ) (hF : Fr (tw_ v sa ra oa) g g') (hM : Mf [] [57, 58, 61, 62, 63] σ σ') : TW g' ρ a sc v u x sa ra oa r m n k h σ' := by
  obtain ⟨hC, hK, ⟨⟨n1, n1'⟩, ⟨n2, n2'⟩, n3, n3'⟩, ⟨hr, hS, ⟨hm, hm6⟩, hR⟩⟩ := hT
  have hC0 := hC
  obtain ⟨⟨a1, a2, a3, a4, a5⟩, ⟨b1, b2, b3, b4⟩, -, -⟩ := hC0
  have hK0 := hK
  obtain ⟨⟨u1, u2, u3⟩, -, ⟨⟨c1, c2, c3, c4⟩, ⟨d1, d2, d3, d4⟩, ⟨e1, e2, e3, e4⟩⟩, -⟩ := hK0
  have hW : ∀ q, tw_ v sa ra oa q → gK g q = 100 ∧ (ρ q = 6 ∨ ρ q = 9) := by
    rintro q (rfl | rfl | rfl | rfl)
    · exact ⟨b1, Or.inl b3⟩
    · exact ⟨c1, Or.inr c3⟩
    · exact ⟨d1, Or.inr d3⟩
    · exact ⟨e1, Or.inr e3⟩
  have hu : ¬ tw_ v sa ra oa u := fun q => by have := (hW u q).1; omega
  have ha : ¬ tw_ v sa ra oa a := fun q => by have := (hW a q).1; omega
  refine ⟨hC.to hF Ag.rf (fun q _ k k' => by have := (hW q k').2; omega) ⟨hF.R a3 ha 0, hF.R a3 ha 2⟩ hM (by decide) (by decide), hK.to hF Ag.rf (fun i => hF.R u3 hu i), ⟨⟨by rw [hF.I u3 hu, n1, hM.I (by decide)], by rw [hM.I (by decide)]; exact n1'⟩, ⟨by rw [hF.I u3 hu, n2, hM.I (by decide)], by rw [hM.I (by decide)]; exact n2'⟩, by rw [hF.I u3 hu, n3, hM.I (by decide)], by rw [hM.I (by decide)]; exact n3'⟩, hr, ?_, ⟨by rw [hM.I (by decide)]; exact hm, hm6⟩, ?_⟩
  · rw [hM.Af (by decide)]
    exact hS.to hF Ag.rf (fun q _ k k' => by have := (hW q k').2; omega)
  · rw [hM.Af (by decide)]; exact hR
/-- where he saw a face -/
def pc_ (σ : MS) (n k : Nat) (t : Int32) : Int32 := ic_ (m_A σ 8) (m_A σ 9) n (m_I σ 1) (m_A σ 53 4) (m_I σ 59) (lt_ (m_A σ 53 1) t) (wy_ (m_A σ 10) (m_A σ 11) t (m_I σ 60) k)
theorem X4_sawAt_l {σ : MS} {n k : Nat} (hn : m_I σ 2 = nI n) (hn12 : n ≤ 12) (hk : m_I σ 3 = nI k) (hk6 : k ≤ 6) (hN : mvN (m_A σ 8) (m_A σ 9) n) (hf : 12 ≤ (m_I σ 1).toInt ∧ (m_I σ 1).toInt ≤ 480) (hl : 0 ≤ (m_I σ 59).toInt ∧ (m_I σ 59).toInt ≤ 1000) (hlag : 0 ≤ (m_A σ 53 1).toInt ∧ (m_A σ 53 1).toInt ≤ 1000) {t : Int32} (ht : 0 ≤ t.toInt ∧ t.toInt ≤ 1000) :
    X4_sawAt t σ = some (pc_ σ n k t) := by
  have h1 := lt_rg hlag (t := t) (by omega)
  have h2 : (lt_ (m_A σ 53 1) t).toInt ≤ 1000 := by
    unfold lt_
    split
    · rw [i_sub (by omega) (by omega)]; omega
    · decide
  have key : X4_sawAt_j23 t (lt_ (m_A σ 53 1) t) σ = some (pc_ σ n k t) := by
    unfold X4_sawAt_j23 pc_
    rw [X4_whoseBy_l hk hk6, e_ob, X4_inchesOf_l hn hn12 hN hf hl (by omega), e_ob]
  unfold X4_sawAt
  rw [e_in (by decide), cl_1]
  unfold lt_ at key
  split at key
  · rename_i h; rw [if_pos h, e_in (by decide)]; exact key
  · rename_i h; rw [if_neg h]; exact key
theorem upd_pI5 {g : GS} {v i : Nat} {a0 a1 a2 a3 a4 : Int32} (hi : i < 5) : gI (pI (pI (pI (pI (pI g v 0 a0) v 1 a1) v 2 a2) v 3 a3) v 4 a4) v i = if i = 0 then a0 else if i = 1 then a1 else if i = 2 then a2 else if i = 3 then a3 else a4 := by
  simp only [I_pI]
  match i, hi with
  | 0, _ => rfl
  | 1, _ => rfl
  | 2, _ => rfl
  | 3, _ => rfl
  | 4, _ => rfl
theorem goal_l {g : GS} {ρ : Nat → Nat} {a sc v u x sa ra oa r m n k h : Nat} {σ : MS} (hT : TW g ρ a sc v u x sa ra oa r m n k h σ) {t : Nat} (ht : t + 1 ≤ 600) (h1 : gI g sa (t + 1) = m_A σ 61 (t + 1)) (h1' : 0 ≤ (m_A σ 61 (t + 1)).toInt ∧ (m_A σ 61 (t + 1)).toInt ≤ 999) (h2 : gI g sa t = m_A σ 61 t) (h3 : gI g ra t = m_A σ 62 t) :
    ∃ w g' σ', X11_goal u (nI (t + 1)) (pc_ σ n k (nI (t + 1))) g = some (w, g') ∧ X4_shouldBe (nI (t + 1)) σ = some (w, σ') ∧ Fr (fun q => q = v) g g' ∧ gz g' = gz g ∧ Mf [] [57, 58] σ σ' ∧ 0 ≤ w.toInt ∧ w.toInt ≤ 999 := by
  have hT0 := hT
  obtain ⟨⟨⟨a1, a2, a3, a4, a5⟩, ⟨b1, b2, b3, b4⟩, hS5, hSc⟩, ⟨⟨u1, u2, u3⟩, ⟨f0, f1, f2, f3, f7⟩, ⟨⟨c1, c2, c3, c4⟩, ⟨d1, d2, d3, d4⟩, ⟨e1, e2, e3, e4⟩⟩, hne⟩, ⟨⟨n1, n1'⟩, ⟨n2, n2'⟩, n3, n3'⟩, hr, hSt, ⟨hm, hm6⟩, hR⟩ := hT
  obtain ⟨⟨s1, s2, s3, s4, s5⟩, ⟨⟨p1, p2⟩, ⟨p3, p4⟩, p5, p6⟩, ⟨q1, q2, q3⟩, ⟨-, -⟩, w1, w2, w3, w4⟩ := hSc
  have hpt : (nI (t + 1)).toInt = ((t + 1 : Nat) : Int) := i_n (by omega)
  have hsees : ∃ s0, s0 = bd_ (m_A σ 61 (t + 1) + m_I σ 64 * (m_A σ 61 (t + 1) - m_A σ 61 t)) 0 999 ∧ X11_goal u (nI (t + 1)) (pc_ σ n k (nI (t + 1))) g = X11_goal_j50 u (nI (t + 1)) (pc_ σ n k (nI (t + 1))) s0 g := by
    refine ⟨_, rfl, ?_⟩
    unfold X11_goal
    rw [e_wk u1, n2, nI_pred]
    by_cases h0 : m_I σ 64 = 0
    · rw [if_pos h0, f1, e_nn, e_rk (by rw [c1]), e_inN (by rw [c2]; omega) (by rw [c2]; omega), nI_clamp (by omega), h1, h0, Int32.zero_mul, Int32.add_zero, bd_in (by rw [i_le, k_0]; omega) (by rw [i_le, k_999]; omega)]
    · rw [if_neg h0, f1, e_nn, e_rk (by rw [c1]), e_inN (by rw [c2]; omega) (by rw [c2]; omega), e_nn, e_rk (by rw [c1]), e_inN (by rw [c2]; omega) (by rw [c2]; omega), e_nn, e_rk (by rw [c1]), e_inN (by rw [c2]; omega) (by rw [c2]; omega), nI_clamp (by omega), nI_clamp (by omega), h1, h2, X1_kept_l (by decide), e_ob]
  obtain ⟨s0, hs0, hgo⟩ := hsees
  have hs0r := bd_rg (v := m_A σ 61 (t + 1) + m_I σ 64 * (m_A σ 61 (t + 1) - m_A σ 61 t)) (a := 0) (b := 999) (by decide)
  rw [k_0, k_999, ← hs0] at hs0r
  obtain ⟨x1, x2, x3, ⟨y0, y1, y2, y3, y4, y5⟩, -⟩ := hSt
  by_cases hh : m_A σ 53 5 = -1
  · refine ⟨s0, g, σ, ?_, ?_, Fr.rf, rfl, Mf.rf, hs0r⟩
    · rw [hgo]
      unfold X11_goal_j50
      rw [e_wk u1, f0, e_nn, e_wk x1, y4, if_pos hh]
    · unfold X4_shouldBe
      rw [e_inN (by omega) (by omega), e_inN (by omega) (by omega), nI_pred, e_inN (by omega) (by omega), nI_clamp (by omega), nI_clamp (by omega), X4_bounded_l, e_ob, e_in (by decide), cl_5, if_pos hh, ← hs0]
  · obtain ⟨l, xs, l1, l2, l3, l4⟩ := q3
    obtain ⟨r1, r2, r3, r4, r5, r6, r7⟩ := hR
    have hnn : ¬ (m_A σ 53 5).toInt = -1 := fun q => hh (by rw [i_eq, q, k_n1])
    obtain ⟨hd, hd1, hd2, hd3⟩ := i_nat (x := m_A σ 53 5) (by omega)
    have hdh : hd < h := by omega
    obtain ⟨y, hy⟩ := get_ex (xs := xs) (k := hd) (by omega)
    rcases l4 hd y hy with ⟨z, -⟩ | ⟨b, c, kk, z1, z2, z3, z4, z5, z6⟩
    · omega
    have hby : y = b := by omega
    subst hby
    obtain ⟨mk, hmk⟩ : ∃ mk : Int32, mk = if mk_ (m_A σ 53) m (pc_ σ n k (nI (t + 1))) = true then 1 else 0 := ⟨_, rfl⟩
    obtain ⟨g4, hg4⟩ : ∃ g4, g4 = pI (pI (pI (pI g v 0 s0) v 1 (m_A σ 61 t)) v 2 (m_A σ 62 t)) v 3 (nI (t + 1)) := ⟨_, rfl⟩
    obtain ⟨σ4, hσ4⟩ : ∃ σ4, σ4 = s_A (s_A (s_A (s_A σ 57 0 s0) 57 1 (m_A σ 61 t)) 57 2 (m_A σ 62 t)) 57 3 (nI (t + 1)) := ⟨_, rfl⟩
    have hF4 : Fr (fun q => q = v) g g4 := by
      rw [hg4]
      exact (((Fr.pI (W := fun q => q = v) rfl).trans (Fr.pI (W := fun q => q = v) rfl) (fun _ _ k => k)).trans (Fr.pI (W := fun q => q = v) rfl) (fun _ _ k => k)).trans (Fr.pI (W := fun q => q = v) rfl) (fun _ _ k => k)
    have hM4 : Mf [] [57] σ σ4 := by
      rw [hσ4]
      exact (((Mf.sA (by decide)).trans (Mf.sA (LI := []) (LA := [57]) (by decide)) (fun _ k => k) (fun _ k => k)).trans (Mf.sA (LI := []) (LA := [57]) (by decide)) (fun _ k => k) (fun _ k => k)).trans (Mf.sA (LI := []) (LA := [57]) (by decide)) (fun _ k => k) (fun _ k => k)
    have hT4 : TW g4 ρ a sc v u x sa ra oa r m n k h σ4 := hT0.to (hF4.mono (fun _ _ k => Or.inl k)) (hM4.mono (fun _ k => k) (by decide))
    obtain ⟨⟨⟨A1, A2, A3, A4, A5⟩, ⟨B1, B2, B3, B4⟩, hS5', hSc4⟩, ⟨⟨U1, U2, U3⟩, ⟨F0, F1, F2, F3, F7⟩, -, -⟩, -, -, hSt4, -, hR4⟩ := hT4
    have X1k := hSt4.1
    have Y4 := hSt4.2.2.2.1.2.2.2.2.1
    have e53 : m_A σ4 53 = m_A σ 53 := hM4.Af (by decide)
    have epc : pc_ σ4 n k (nI (t + 1)) = pc_ σ n k (nI (t + 1)) := by
      unfold pc_
      rw [hM4.Af (j := 8) (by decide), hM4.Af (j := 9) (by decide), hM4.Af (j := 10) (by decide), hM4.Af (j := 11) (by decide), hM4.I (k := 1) (by decide), hM4.I (k := 59) (by decide), hM4.I (k := 60) (by decide), e53]
    have hpcr : 12 ≤ (pc_ σ n k (nI (t + 1))).toInt ∧ (pc_ σ n k (nI (t + 1))).toInt ≤ 480 := by
      refine ic_rg p2 w1 w3 (by omega) (by omega) ?_
      have q9 := lt_rg (late := m_A σ 53 1) (t := nI (t + 1)) (by omega) (by omega)
      refine ⟨by omega, ?_⟩
      unfold lt_
      split
      · rw [i_sub (by omega) (by omega)]; omega
      · decide
    have hsaw : X4_sawAt (nI (t + 1)) σ4 = some (pc_ σ n k (nI (t + 1))) := by
      rw [← epc]
      refine X4_sawAt_l (by rw [hM4.I (by decide)]; exact p1) p2 (by rw [hM4.I (by decide)]; exact p3) p4 (by rw [hM4.Af (j := 8) (by decide), hM4.Af (j := 9) (by decide)]; exact w1) (by rw [hM4.I (by decide)]; exact w3) (by rw [hM4.I (by decide)]; omega) (by rw [e53]; omega) (by omega)
    have hby4 : X4_isByMark (pc_ σ n k (nI (t + 1))) σ4 = some mk := by
      rw [X4_isByMark_l (m := m) (by rw [hM4.I (by decide)]; exact hm) hm6 (by rw [e53]; exact r7) (by omega), e53, ← hmk]
    have hFL : FL [0, 1, 2, 3, 4] (pI g4 v 4 mk) ρ ff_ y c := by
      have z2' := z2.le (n' := ff_) (by decide)
      have z3' : FL [0, 1, 2, 3, 4] g4 ρ ff_ y c := z2'.to hF4 (fun _ _ k => k) (fun q hq k k' => by rw [k', b3] at k; omega)
      exact z3'.to (W := fun q => q = v) (Fr.pI rfl) (fun _ _ k => k) (fun q hq k k' => by rw [k', b3] at k; omega)
    obtain ⟨w, v1, v2⟩ := ev_l (g := pI g4 v 4 mk) (v := v) (T := m_A (s_A σ4 57 4 mk) 57) hS5' (by rw [K_pI, B1]) (by rw [N_pI, B2]; exact ⟨by decide, by omega⟩) (fun w y hy => by
      have hw : w < 5 := (List.getElem?_eq_some_iff.mp hy).1
      have hyw : y = nI w := by
        match w, hw, hy with
        | 0, _, hy => cases hy; rfl
        | 1, _, hy => cases hy; rfl
        | 2, _, hy => cases hy; rfl
        | 3, _, hy => cases hy; rfl
        | 4, _, hy => cases hy; rfl
      refine ⟨w, by omega, hyw, ?_⟩
      rw [hg4, hσ4, upd_pI5 hw]
      simp only [rA_sA]
      match w, hw with
      | 0, _ => rfl
      | 1, _ => rfl
      | 2, _ => rfl
      | 3, _ => rfl
      | 4, _ => rfl) ff_ y c hFL
    have hM5 : Mf [] [57] σ (s_A σ4 57 4 mk) := hM4.trans (Mf.sA (LI := []) (LA := [57]) (by decide)) (fun _ k => k) (fun _ k => k)
    obtain ⟨σ5, k1, k2⟩ := reck_l v2 (σ := s_A σ4 57 4 mk) (k := kk) (by rw [hM5.Af (by decide)]; exact z4) z5 z6 (fun _ _ => rfl)
    have hb := bd_rg (v := w) (a := 0) (b := 999) (by decide)
    rw [k_0, k_999] at hb
    have hj : X11_goal_j142 u v 4 mk g4 = some (bd_ w 0 999, pI g4 v 4 mk) := by
      have hL4 : LiP g4 ρ 0 l xs := l2.to (W := fun q => q = v) hF4 Ag.rf (fun q hq k k' => by rw [k', b3] at k; omega)
      have hL5 : LiP (pI g4 v 4 mk) ρ 0 l xs := hL4.to (W := fun q => q = v) (Fr.pI rfl) Ag.rf (fun q hq k k' => by rw [k', b3] at k; omega)
      have hscne : ¬ sc = v := by intro q; rw [q, b1] at s1; omega
      have hxne : ¬ x = v := by intro q; rw [q, b1] at x1; omega
      have l1' : gR g4 sc 2 = l + 1 := by rw [hF4.R s3 hscne, l1]
      have hy4 : gI (pI g4 v 4 mk) x 4 = nI hd := by rw [I_pI, if_neg (by rintro ⟨q, -⟩; exact hxne q), Y4, e53, hd1]
      have hsc4 : gK g4 sc = 2 := by rw [hF4.K s3, s1]
      have hl4 : gK (pI g4 v 4 mk) l = 12 := hL5.K
      have hkf := hFL.kind.1
      unfold X11_goal_j142
      rw [e_wk B1, e_i4 (by rw [B2]; omega) (by rw [B2]; omega), cl_4, e_wk (by exact U1), R_pI, F7, e_nn, e_wk (by exact A1), A4, e_nn, e_wk (by exact hsc4), l1', e_nn, F0, e_nn, e_wk (by exact X1k), e_wk (by exact hl4), hy4, J2_get_l hL5 hy, e_ob, hkf, e_gd, e_nn, e_wk (by exact A1), A5, e_nn, v1, e_ob, X1_kept_l (by decide), e_ob]
    refine ⟨bd_ w 0 999, pI g4 v 4 mk, σ5, ?_, ?_, hF4.trans (Fr.pI (W := fun q => q = v) rfl) (fun _ _ k => k), ?_, (hM5.mono (LA := [57, 58]) (fun _ k => k) (by decide)).trans k2 (fun _ k => k) (by decide), hb⟩
    · rw [hgo]
      have hgv : ∀ (gg : GS) (q k : Nat) (w : Int32), gI (pI gg v k w) sa q = gI gg sa q ∨ sa = v := fun gg q k w => by
        by_cases e : sa = v
        · exact Or.inr e
        · exact Or.inl (by rw [I_pI, if_neg (by rintro ⟨q, -⟩; exact e q)])
      have hsav : ¬ sa = v := by intro q; rw [q, b3] at c3; omega
      have hrav : ¬ ra = v := by intro q; rw [q, b3] at d3; omega
      have t1 : t < 601 := by omega
      have hmk4 : X3_isByMark x (pc_ σ n k (nI (t + 1))) g4 = some mk := by rw [X3_isByMark_l hSt4, e53, ← hmk]
      unfold X11_goal_j50
      rw [e_wk u1, f0, e_nn, e_wk x1, y4, if_neg hh, f7, e_nn, e_wk a1, a5, e_nn, e_wk b1, e_i0 (by rw [b2]; omega) (by rw [b2]; omega), cl_0]
      simp only [R_pI, K_pI, N_pI, e_wk, e_rk, e_nn, e_inN, e_i1, e_i2, e_i3, f7, f0, f1, f2, a1, a5, b1, b2, c1, c2, d1, d2, u1, x1, t1, nI_pred, I_pI, hsav, hrav, false_and, if_false, cl_1, cl_2, cl_3, nI_clamp (show t < 2 ^ 31 by omega), h2, h3, show (1 : Nat) < 5 from by omega, show (2 : Nat) < 5 from by omega, show (3 : Nat) < 5 from by omega, show (5 : Nat) < 2 ^ 31 from by omega, show (601 : Nat) < 2 ^ 31 from by omega]
      rw [← hg4]
      simp only [hmk4, e_ob]
      rcases (show mk = 0 ∨ mk = 1 by rw [hmk]; split <;> simp) with q | q
      · rw [if_pos q, show X11_goal_j142 u v 4 0 g4 = X11_goal_j142 u v 4 mk g4 by rw [q]]; exact hj
      · rw [if_neg (by rw [q]; decide), show X11_goal_j142 u v 4 1 g4 = X11_goal_j142 u v 4 mk g4 by rw [q]]; exact hj
    · have hj4 : X4_shouldBe_j111 4 mk σ4 = some (bd_ w 0 999, σ5) := by
        unfold X4_shouldBe_j111
        rw [e_i4 (by omega) (by omega), cl_4, e_i5 (by omega) (by omega), cl_5]
        show in_ (m_A σ4 53 5) 4 (cb_ (X4_reckons (m_A σ4 12 (m_A σ4 53 5).toNatClampNeg) (s_A σ4 57 4 mk)) _) = _
        rw [e53, hM4.Af (j := 12) (by decide), hd1, e_inN (by omega) (by omega), nI_clamp (by omega), z3, k1, e_cb, X4_bounded_l, e_ob]
      unfold X4_shouldBe
      rw [e_inN (by omega) (by omega), e_inN (by omega) (by omega), nI_pred, e_inN (by omega) (by omega), nI_clamp (by omega), nI_clamp (by omega), X4_bounded_l, e_ob, e_in (by decide), cl_5, if_neg hh, ← hs0]
      have t1 : t < 601 := by omega
      simp only [e_i0, e_i1, e_i2, e_i3, e_inN, t1, cl_0, cl_1, cl_2, cl_3, ← hσ4, hsaw, hby4, e_ob, show (0 : Nat) < 8 from by omega, show (1 : Nat) < 8 from by omega, show (2 : Nat) < 8 from by omega, show (3 : Nat) < 8 from by omega, show (8 : Nat) < 2 ^ 31 from by omega, show (601 : Nat) < 2 ^ 31 from by omega]
      rcases (show mk = 0 ∨ mk = 1 by rw [hmk]; split <;> simp) with q | q
      · rw [if_pos q, show X4_shouldBe_j111 4 0 σ4 = X4_shouldBe_j111 4 mk σ4 by rw [q]]; exact hj4
      · rw [if_neg (by rw [q]; decide), show X4_shouldBe_j111 4 1 σ4 = X4_shouldBe_j111 4 mk σ4 by rw [q]]; exact hj4
    · rw [z_pI, hg4]; rfl
end
section
/-! LAWS: a take runs (own work) -/
set_option maxRecDepth 100000
/-- the three arrays agree below t -/
def ArP (g : GS) (sa ra oa : Nat) (σ : MS) (t : Nat) : Prop := ∀ s, s < t → (gI g sa s = m_A σ 61 s ∧ 0 ≤ (m_A σ 61 s).toInt ∧ (m_A σ 61 s).toInt ≤ 999) ∧ (gI g ra s = m_A σ 62 s ∧ 0 ≤ (m_A σ 62 s).toInt ∧ (m_A σ 62 s).toInt ≤ 999) ∧ gI g oa s = m_A σ 63 s ∧ -999 ≤ (m_A σ 63 s).toInt ∧ (m_A σ 63 s).toInt ≤ 999
theorem run_l {g : GS} {ρ : Nat → Nat} {a sc v u x sa ra oa r m n k h : Nat} {σ : MS} (hT : TW g ρ a sc v u x sa ra oa r m n k h σ) :
    ∃ g' σ', X11_run u g = some (u, g') ∧ X4_goesThrough σ = some σ' ∧ Fr (tw_ v sa ra oa) g g' ∧ gz g' = gz g ∧ Mf [] [57, 58, 61, 62, 63] σ σ' ∧ ArP g' sa ra oa σ' ((sm_ (m_A σ 9) n).toInt.toNat + 1) := by
  have hT0 := hT
  obtain ⟨⟨-, -, -, ⟨-, ⟨⟨p1, p2⟩, -⟩, -, -, w1, -, -, w4⟩⟩, -⟩ := hT
  have hsm := sm_rg (L := m_A σ 9) n (fun i hi => (w1 i hi).2) p2
  obtain ⟨T, hTn, hTi, -⟩ := i_nat (x := sm_ (m_A σ 9) n) (by omega)
  have hT6 : T ≤ 600 := by omega
  have hTT : (sm_ (m_A σ 9) n).toInt.toNat = T := by omega
  rw [hTT]
  obtain ⟨ge, σe, m1, m2, m3, m4, m5, m6⟩ : ∃ ge σe, lp_ (fun a : Int32 × GS => X11_run_b2 u a.1 a.2) fu_ (0, g) = some ge ∧ lp_ (fun a : Int32 × MS => X4_goesThrough_b7 (nI T) a.1 a.2) fu_ (0, σ) = some σe ∧ Fr (tw_ v sa ra oa) g ge ∧ gz ge = gz g ∧ Mf [] [57, 58, 61, 62, 63] σ σe ∧ ArP ge sa ra oa σe (T + 1) := by
    refine lp2_t (I := fun j (a : Int32 × GS) (b : Int32 × MS) => ∃ t, a.1 = nI t ∧ b.1 = nI t ∧ t ≤ T + 1 ∧ j = T + 1 - t ∧ Fr (tw_ v sa ra oa) g a.2 ∧ gz a.2 = gz g ∧ Mf [] [57, 58, 61, 62, 63] σ b.2 ∧ ArP a.2 sa ra oa b.2 t)
      (Q := fun ge σe => Fr (tw_ v sa ra oa) g ge ∧ gz ge = gz g ∧ Mf [] [57, 58, 61, 62, 63] σ σe ∧ ArP ge sa ra oa σe (T + 1))
      ?_ fu_ (T + 1) (0, g) (0, σ) ⟨0, rfl, rfl, Nat.zero_le _, rfl, Fr.rf, rfl, Mf.rf, fun s hs => by omega⟩ (by unfold fu_; omega)
    rintro j ⟨x1, g1⟩ ⟨x2, σ1⟩ ⟨t, e1, e2, e3, e4, e5, e6, e7, e8⟩
    simp only at e1 e2 e5 e6 e7 e8 ⊢
    subst e1 e2
    have hT1 := hT0.to e5 e7
    have hT1' := hT1
    obtain ⟨hC, ⟨⟨u1, u2, u3⟩, ⟨f0, f1, f2, f3, f7⟩, ⟨⟨c1, c2, c3, c4⟩, ⟨d1, d2, d3, d4⟩, ⟨o1, o2, o3, o4⟩⟩, hne1, hne2, hne3⟩, ⟨⟨n1, n1'⟩, ⟨n2, n2'⟩, n3, n3'⟩, hr, hSt, ⟨hm, hm6⟩, hR⟩ := hT1
    have hC' := hC
    obtain ⟨⟨a1, a2, a3, a4, a5⟩, ⟨b1, b2, b3, b4⟩, hS5, ⟨s1, s2, s3, s4, s5⟩, ⟨⟨P1, P2⟩, ⟨P3, P4⟩, P5, P6⟩, ⟨q1, q2, q3⟩, -, v1, v2, v3, v4⟩ := hC
    obtain ⟨r1, r2, r3, r4, r5, r6, r7⟩ := hR
    have hx3 := hSt.1
    have hxS := hSt.2.2.2.1
    have e9 : m_A σ1 9 = m_A σ 9 := e7.Af (by decide)
    have hlast : gI g1 sc 6 = nI T := by rw [s5, e9, hTn]
    have hti : t ≤ T → (nI t).toInt = (t : Int) := fun _ => i_n (by omega)
    by_cases ht : t ≤ T
    · have hts := hti ht
      have t1 : t < 601 := by omega
      -- where she is, where he saw a face
      have hisr : 12 ≤ (ic_ (m_A σ1 8) (m_A σ1 9) n (m_I σ1 1) (m_A σ1 53 4) (m_I σ1 59) (nI t) (wy_ (m_A σ1 10) (m_A σ1 11) (nI t) 0 k)).toInt ∧ (ic_ (m_A σ1 8) (m_A σ1 9) n (m_I σ1 1) (m_A σ1 53 4) (m_I σ1 59) (nI t) (wy_ (m_A σ1 10) (m_A σ1 11) (nI t) 0 k)).toInt ≤ 480 := ic_rg P2 v1 v3 (by omega) (by omega) (by omega)
      obtain ⟨xi, hxi⟩ : ∃ xi, xi = ic_ (m_A σ1 8) (m_A σ1 9) n (m_I σ1 1) (m_A σ1 53 4) (m_I σ1 59) (nI t) (wy_ (m_A σ1 10) (m_A σ1 11) (nI t) 0 k) := ⟨_, rfl⟩
      rw [← hxi] at hisr
      have hlr := lt_rg (late := m_A σ1 53 1) (t := nI t) (by omega) (by omega)
      have hlr2 : (lt_ (m_A σ1 53 1) (nI t)).toInt ≤ 1000 := by
        unfold lt_
        split
        · rw [i_sub (by omega) (by omega)]; omega
        · decide
      have hpr : 12 ≤ (pc_ σ1 n k (nI t)).toInt ∧ (pc_ σ1 n k (nI t)).toInt ≤ 480 := ic_rg P2 v1 v3 (by omega) (by omega) (by omega)
      obtain ⟨p, hp⟩ : ∃ p, p = pc_ σ1 n k (nI t) := ⟨_, rfl⟩
      rw [← hp] at hpr
      have hjr := jd_rg (S := m_A σ1 53) (m := m) hpr
      obtain ⟨xj, hxj⟩ : ∃ xj, xj = jd_ (m_A σ1 53) m p := ⟨_, rfl⟩
      rw [← hxj] at hjr
      -- A
      obtain ⟨ri, gA, σA, A1, A2, A3, A4, A5, A6⟩ := turn_l hC' hisr
      have hFA : Fr (tw_ v sa ra oa) g1 gA := A3.mono (fun _ _ k => Or.inl k)
      have hTA : TW gA ρ a sc v u x sa ra oa r m n k h σ1 := hT1'.to hFA Mf.rf
      -- B
      obtain ⟨rs, gB, σB, B1, B2, B3, B4, B5, B6⟩ := turn_l hTA.1 hjr
      have hFB : Fr (tw_ v sa ra oa) gA gB := B3.mono (fun _ _ k => Or.inl k)
      have hMB : Mf [] [57, 58, 61, 62, 63] σ1 σB := B5.mono (fun _ k => k) (by decide)
      have hMB' : Mf [] [57, 58, 61, 62, 63] σ1 (s_A σB 61 t rs) := hMB.trans (Mf.sA (LI := []) (LA := [57, 58, 61, 62, 63]) (by decide)) (fun _ k => k) (fun _ k => k)
      -- C
      have hTC : TW g1 ρ a sc v u x sa ra oa r m n k h (s_A σB 61 t rs) := hT1'.to Fr.rf hMB'
      obtain ⟨ri', gC, σC, C1, C2, C3, C4, C5, C6⟩ := turn_l hTC.1 hisr
      have hri : ri' = ri := by
        rw [A1] at C1
        cases C1
        rfl
      rw [hri] at C2
      have hMC : Mf [] [57, 58, 61, 62, 63] σ1 σC := hMB'.trans C5 (fun _ k => k) (by decide)
      have hFs : Fr (tw_ v sa ra oa) g1 (pI gB sa t rs) := (hFA.trans hFB (fun _ _ k => k)).trans (Fr.pI (W := tw_ v sa ra oa) (Or.inr (Or.inl rfl))) (fun _ _ k => k)
      have hTD : TW (pI gB sa t rs) ρ a sc v u x sa ra oa r m n k h σC := hT1'.to hFs hMC
      have zD : gz (pI gB sa t rs) = gz g1 := by rw [z_pI, B4, A4]
      -- the model's body
      have hsaw : X4_sawAt (nI t) σ1 = some p := by rw [hp]; exact X4_sawAt_l P1 P2 P3 P4 v1 v3 (by omega) (by omega) (by omega)
      have hjud : X4_judged p σ1 = some xj := by rw [hxj]; exact X4_judged_l hm hm6 r7 (by omega)
      have hwho : X4_whoseIn (nI t) (s_A σB 61 t rs) = some (wy_ (m_A σ1 10) (m_A σ1 11) (nI t) 0 k) := by
        unfold X4_whoseIn
        rw [X4_whoseBy_l (by rw [hMB'.I (by decide)]; exact P3) P4, e_ob, hMB'.Af (j := 10) (by decide), hMB'.Af (j := 11) (by decide)]
      have hinc : X4_inchesOf (nI t) (wy_ (m_A σ1 10) (m_A σ1 11) (nI t) 0 k) (s_A σB 61 t rs) = some xi := by
        rw [X4_inchesOf_l (n := n) (by rw [hMB'.I (by decide)]; exact P1) P2 (by rw [hMB'.Af (j := 8) (by decide), hMB'.Af (j := 9) (by decide)]; exact v1) (by rw [hMB'.I (by decide)]; exact v3) (by rw [hMB'.I (by decide)]; omega) (by omega), hMB'.Af (j := 8) (by decide), hMB'.Af (j := 9) (by decide), hMB'.I (k := 1) (by decide), hMB'.I (k := 59) (by decide), hMB'.A (j := 53) (by decide), hxi]
      -- the component's body
      have hhis : X2_isHis sc (nI t - m_I σ1 60) g1 = some (wy_ (m_A σ1 10) (m_A σ1 11) (nI t) (m_I σ1 60) k) := by
        rw [X2_isHis_l s1 q2 P4 v2, wy_sh (by omega) (by omega) k (fun i hi => (v2 i hi).1)]
      have hhis0 : X2_isHis sc (nI t) g1 = some (wy_ (m_A σ1 10) (m_A σ1 11) (nI t) 0 k) := X2_isHis_l s1 q2 P4 v2
      have hin1 : X11_inches u (nI t) (wy_ (m_A σ1 10) (m_A σ1 11) (nI t) 0 k) g1 = some xi := by
        rw [X11_inches_l u1 a1 s1 hx3 f7 a4 f0 q1 P2 v1 (by rw [n1]; omega) (by omega), hxi, s4, n1, hxS.2.2.2.2.2]
      have hTA0 := hTA
      obtain ⟨⟨⟨Aa1, Aa2, Aa3, Aa4, Aa5⟩, -, -, ⟨As1, As2, As3, As4, As5⟩, -, ⟨Aq1, -, -⟩, -, -⟩, ⟨⟨Au1, -, -⟩, ⟨Af0, Af1, Af2, Af3, Af7⟩, -, -⟩, ⟨⟨An1, -⟩, -⟩, -, ASt, -, -⟩ := hTA0
      have hin2 : X11_inches u (lt_ (m_A σ1 53 1) (nI t)) (wy_ (m_A σ1 10) (m_A σ1 11) (nI t) (m_I σ1 60) k) gA = some p := by
        rw [X11_inches_l Au1 Aa1 As1 ASt.1 Af7 Aa4 Af0 Aq1 P2 v1 (by rw [An1]; omega) (by omega), hp, As4, An1, ASt.2.2.2.1.2.2.2.2.2]
        rfl
      have hju : X11_judged u p gA = some xj := by rw [hxj]; exact X11_judged_l Au1 Af0 ASt
      have hjm : jmax_ 0 (nI t - gI gA x 1) = lt_ (m_A σ1 53 1) (nI t) := by rw [ASt.2.2.2.1.2.1]; exact hlr.2
      obtain ⟨⟨⟨Da1, Da2, Da3, Da4, Da5⟩, -, -, -⟩, ⟨⟨Du1, Du2, Du3⟩, ⟨Df0, Df1, Df2, Df3, Df7⟩, ⟨⟨Dc1, Dc2, Dc3, Dc4⟩, ⟨Dd1, Dd2, Dd3, Dd4⟩, ⟨Do1, Do2, Do3, Do4⟩⟩, -⟩, -, -, DSt, -, -⟩ := hTD
      have hsav : sa ≠ v := by intro q; rw [q, b3] at c3; omega
      have hrav : ra ≠ v := by intro q; rw [q, b3] at d3; omega
      have hoav : oa ≠ v := by intro q; rw [q, b3] at o3; omega
      have eD : ∀ q i, q < gz g1 → q ≠ v → gI (pI gB sa t rs) q i = if q = sa ∧ i = t then rs else gI g1 q i := by
        intro q i hq hqv
        rw [I_pI, B3.I (show q < gz gA by rw [A4]; exact hq) hqv, A3.I hq hqv]
      have eC : ∀ j i, j = 61 ∨ j = 62 ∨ j = 63 → m_A σC j i = if j = 61 ∧ i = t then rs else m_A σ1 j i := by
        rintro j i (rfl | rfl | rfl) <;> rw [C5.A (by decide), rA_sA, B5.A (by decide)]
      have hrsr : 0 ≤ rs.toInt ∧ rs.toInt ≤ 999 := B6
      have hrir : 0 ≤ ri.toInt ∧ ri.toInt ≤ 999 := A6
      have fin : ∀ (g4 : GS) (σ4 : MS) (rv : Int32), Fr (fun q => q = v) (pI gB sa t rs) g4 → gz g4 = gz (pI gB sa t rs) → Mf [] [57, 58] σC σ4 → 0 ≤ rv.toInt ∧ rv.toInt ≤ 999 →
          ∃ g5 σ5, X11_run_j152 u (nI t) ri ra (nI t) rv g4 = some (.inl (nI t + 1, g5)) ∧ X4_goesThrough_j110 (nI T) (nI t) ri (s_A σ4 62 t rv) = some (.inl (nI t + 1, σ5)) ∧ Fr (tw_ v sa ra oa) g g5 ∧ gz g5 = gz g ∧ Mf [] [57, 58, 61, 62, 63] σ σ5 ∧ ArP g5 sa ra oa σ5 (t + 1) := by
        intro g4 σ4 rv k1 k2 k3 k4
        have kI : ∀ q i, q < gz g1 → q ≠ v → gI g4 q i = if q = sa ∧ i = t then rs else gI g1 q i := fun q i hq hqv => by rw [k1.I (by rw [zD]; exact hq) hqv, eD q i hq hqv]
        have kA : ∀ j i, j = 61 ∨ j = 62 ∨ j = 63 → m_A σ4 j i = if j = 61 ∧ i = t then rs else m_A σ1 j i := fun j i hj => by
          rw [k3.A (by rcases hj with rfl | rfl | rfl <;> decide), eC j i hj]
        have kR : ∀ i, gR g4 u i = gR (pI gB sa t rs) u i := fun i => k1.R Du3 (by intro q; rw [q, b3] at u2; omega) i
        have e5' : (ri - rv).toInt = ri.toInt - rv.toInt := i_sub (by omega) (by omega)
        refine ⟨pI (pI g4 ra t rv) oa t (ri - rv), s_A (s_A σ4 62 t rv) 63 t (ri - rv), ?_, ?_, ?_, ?_, ?_, ?_⟩
        · unfold X11_run_j152
          rw [e_wk (by rw [k1.K Dd4, Dd1]), e_inN (by rw [k1.N Dd4, Dd2]; exact t1) (by rw [k1.N Dd4, Dd2]; omega), nI_clamp (by omega), e_wk (by rw [K_pI, k1.K Du3, Du1]), R_pI, kR, Df3, e_nn, kR, Df2, e_nn, e_rk (by rw [K_pI, k1.K Dd4, Dd1]), e_inN (by rw [N_pI, k1.N Dd4, Dd2]; exact t1) (by rw [N_pI, k1.N Dd4, Dd2]; omega), e_wk (by rw [K_pI, k1.K Do4, Do1]), e_inN (by rw [N_pI, k1.N Do4, Do2]; exact t1) (by rw [N_pI, k1.N Do4, Do2]; omega), I_pI, if_pos ⟨rfl, rfl⟩]
        · unfold X4_goesThrough_j110
          rw [e_inN t1 (by omega), e_inN t1 (by omega), nI_clamp (by omega), rA_sA, if_pos ⟨rfl, rfl⟩]
        · refine ((e5.trans hFs (fun _ _ k => k)).trans k1 (fun _ _ k => Or.inl k)).trans ((Fr.pI (W := tw_ v sa ra oa) (Or.inr (Or.inr (Or.inl rfl)))).trans (Fr.pI (W := tw_ v sa ra oa) (Or.inr (Or.inr (Or.inr rfl)))) (fun _ _ k => k)) (fun _ _ k => k)
        · rw [z_pI, z_pI, k2, zD, e6]
        · exact ((e7.trans hMC (fun _ k => k) (fun _ k => k)).trans k3 (fun _ k => k) (by decide)).trans ((Mf.sA (LI := []) (LA := [57, 58, 61, 62, 63]) (by decide)).trans (Mf.sA (LI := []) (LA := [57, 58, 61, 62, 63]) (by decide)) (fun _ k => k) (fun _ k => k)) (fun _ k => k) (fun _ k => k)
        · intro s hs
          have x1 : gI (pI (pI g4 ra t rv) oa t (ri - rv)) sa s = if s = t then rs else gI g1 sa s := by
            rw [I_pI, if_neg (by rintro ⟨q, -⟩; exact hne2 q), I_pI, if_neg (by rintro ⟨q, -⟩; exact hne1 q), kI sa s c4 hsav]
            by_cases q : s = t
            · rw [if_pos q, if_pos ⟨rfl, q⟩]
            · rw [if_neg q, if_neg (by rintro ⟨-, k⟩; exact q k)]
          have x2 : gI (pI (pI g4 ra t rv) oa t (ri - rv)) ra s = if s = t then rv else gI g1 ra s := by
            rw [I_pI, if_neg (by rintro ⟨q, -⟩; exact hne3 q), I_pI]
            by_cases q : s = t
            · rw [if_pos q, if_pos ⟨rfl, q⟩]
            · rw [if_neg q, if_neg (by rintro ⟨-, k⟩; exact q k), kI ra s d4 hrav, if_neg (by rintro ⟨k, -⟩; exact hne1 k.symm)]
          have x3 : gI (pI (pI g4 ra t rv) oa t (ri - rv)) oa s = if s = t then ri - rv else gI g1 oa s := by
            rw [I_pI]
            by_cases q : s = t
            · rw [if_pos q, if_pos ⟨rfl, q⟩]
            · rw [if_neg q, if_neg (by rintro ⟨-, k⟩; exact q k), I_pI, if_neg (by rintro ⟨k, -⟩; exact hne3 k.symm), kI oa s o4 hoav, if_neg (by rintro ⟨k, -⟩; exact hne2 k.symm)]
          have y1 : m_A (s_A (s_A σ4 62 t rv) 63 t (ri - rv)) 61 s = if s = t then rs else m_A σ1 61 s := by
            rw [rA_sA, if_neg (by rintro ⟨q, -⟩; omega), rA_sA, if_neg (by rintro ⟨q, -⟩; omega), kA 61 s (Or.inl rfl)]
            by_cases q : s = t
            · rw [if_pos q, if_pos ⟨rfl, q⟩]
            · rw [if_neg q, if_neg (by rintro ⟨-, k⟩; exact q k)]
          have y2 : m_A (s_A (s_A σ4 62 t rv) 63 t (ri - rv)) 62 s = if s = t then rv else m_A σ1 62 s := by
            rw [rA_sA, if_neg (by rintro ⟨q, -⟩; omega), rA_sA]
            by_cases q : s = t
            · rw [if_pos q, if_pos ⟨rfl, q⟩]
            · rw [if_neg q, if_neg (by rintro ⟨-, k⟩; exact q k), kA 62 s (Or.inr (Or.inl rfl)), if_neg (by rintro ⟨k, -⟩; omega)]
          have y3 : m_A (s_A (s_A σ4 62 t rv) 63 t (ri - rv)) 63 s = if s = t then ri - rv else m_A σ1 63 s := by
            rw [rA_sA]
            by_cases q : s = t
            · rw [if_pos q, if_pos ⟨rfl, q⟩]
            · rw [if_neg q, if_neg (by rintro ⟨-, k⟩; exact q k), rA_sA, if_neg (by rintro ⟨k, -⟩; omega), kA 63 s (Or.inr (Or.inr rfl)), if_neg (by rintro ⟨k, -⟩; omega)]
          rw [x1, x2, x3, y1, y2, y3]
          by_cases q : s = t
          · rw [if_pos q, if_pos q, if_pos q, if_pos q, if_pos q, if_pos q]
            exact ⟨⟨rfl, hrsr⟩, ⟨rfl, k4⟩, rfl, by omega, by omega⟩
          · rw [if_neg q, if_neg q, if_neg q, if_neg q, if_neg q, if_neg q]
            exact e8 s (by omega)
      have hBk : gK gB sa = 100 ∧ gN gB sa = 601 := ⟨Dc1, Dc2⟩
      refine Or.inl ?_
      have bodyX : ∀ (K : Option ((Int32 × GS) ⊕ GS)), (if nI t = 0 then X11_run_j152 u (nI t) ri ra (nI t) ri (pI gB sa t rs) else (nn_ (gR (pI gB sa t rs) u 2) fun b55 => rk_ (pI gB sa t rs) b55 100 <| in_ (nI t - 1) (gN (pI gB sa t rs) b55) <| cb_ (X11_goal u (nI t) p (pI gB sa t rs)) fun r61 g60 => wk_ g60 u 10 <| nn_ (gR g60 u 2) fun b63 => rk_ g60 b63 100 <| in_ (nI t - 1) (gN g60 b63) <| nn_ (gR g60 u 0) fun b67 => wk_ g60 b67 3 <| nn_ (gR g60 u 0) fun b70 => wk_ g60 b70 3 <| ob_ (X1_kept (r61 - (gI g60 b63 (nI t - 1).toNatClampNeg)) (-(gI g60 b67 2)) (gI g60 b70 2)) fun r74 => X11_run_j152 u (nI t) ri ra (nI t) ((gI (pI gB sa t rs) b55 (nI t - 1).toNatClampNeg) + r74) g60)) = K → X11_run_b2 u (nI t) g1 = K := by
        intro K hK
        unfold X11_run_b2
        rw [e_wk u1, f7, e_nn, e_wk a1, a4, e_nn, e_wk s1, hlast, if_neg (nI_nlt ht (by omega)), e_nn, e_wk a1, a4, e_nn, e_wk s1, n3, hhis, e_ob, e_nn, e_nn, e_wk a1, a4, e_nn, e_wk s1, hhis0, e_ob, hin1, e_ob, e_wk a1, A1, e_cb, e_wk Au1, Af0, e_nn, e_wk ASt.1, hjm, hin2, e_ob, Af1, e_nn, Af7, e_nn, hju, e_ob, e_wk Aa1, B1, e_cb, e_wk (by exact hBk.1), e_inN (by rw [hBk.2]; exact t1) (by rw [hBk.2]; omega), nI_clamp (by omega), e_wk (by exact Du1), Df2, e_nn]
        rw [Df2] at hK
        exact hK
      have bodyM : ∀ (K : Option ((Int32 × MS) ⊕ MS)), (if nI t = 0 then in_ 0 601 <| X4_goesThrough_j110 (nI T) (nI t) ri (s_A σC 62 ((0 : Int32).toNatClampNeg) ri) else cb_ (X4_shouldBe (nI t) σC) fun r21 σ22 => in_ 2 12 <| in_ (nI t - 1) 601 <| in_ (nI t - 1) 601 <| ob_ (X4_bounded (r21 - (m_A σ22 62 ((nI t - 1).toNatClampNeg))) (0 - (m_A σ22 53 ((2 : Int32).toNatClampNeg))) (m_A σ22 53 ((2 : Int32).toNatClampNeg))) fun r26 => in_ (nI t) 601 <| X4_goesThrough_j110 (nI T) (nI t) ri (s_A σ22 62 (nI t).toNatClampNeg ((m_A σ22 62 ((nI t - 1).toNatClampNeg)) + r26))) = K → X4_goesThrough_b7 (nI T) (nI t) σ1 = K := by
        intro K hK
        unfold X4_goesThrough_b7
        rw [if_neg (nI_nlt ht (by omega)), hsaw, e_ob, hjud, e_ob, B2, e_cb, e_inN t1 (by omega)]
        rw [show (nI t).toNatClampNeg = t from nI_clamp (by omega)] at hK ⊢
        rw [hwho, e_ob, hinc, e_ob, C2, e_cb]
        exact hK
      by_cases ht0 : t = 0
      · subst ht0
        obtain ⟨g5, σ5, w1, w2, w3, w4, w5, w6⟩ := fin (pI gB sa 0 rs) σC ri Fr.rf rfl Mf.rf hrir
        refine ⟨(nI 0 + 1, g5), (nI 0 + 1, σ5), j - 1, by omega, bodyX _ ?_, bodyM _ ?_, 1, rfl, rfl, by omega, by omega, w3, w4, w5, w6⟩
        · rw [if_pos nI_0, w1]
        · rw [if_pos nI_0, e_i0 (by omega) (by omega), cl_0, w2]
      · obtain ⟨t', rfl⟩ : ∃ t', t = t' + 1 := ⟨t - 1, by omega⟩
        have hTD' : TW (pI gB sa (t' + 1) rs) ρ a sc v u x sa ra oa r m n k h σC := hT1'.to hFs hMC
        have hpc : pc_ σC n k (nI (t' + 1)) = p := by
          rw [hp]
          unfold pc_
          rw [hMC.Af (j := 8) (by decide), hMC.Af (j := 9) (by decide), hMC.Af (j := 10) (by decide), hMC.Af (j := 11) (by decide), hMC.I (k := 1) (by decide), hMC.I (k := 59) (by decide), hMC.I (k := 60) (by decide), hMC.Af (j := 53) (by decide)]
        have h8 := e8 t' (by omega)
        have hg61 : gI (pI gB sa (t' + 1) rs) sa (t' + 1) = m_A σC 61 (t' + 1) := by rw [eD sa _ c4 hsav, eC 61 _ (Or.inl rfl), if_pos ⟨rfl, rfl⟩, if_pos ⟨rfl, rfl⟩]
        have hg61' : m_A σC 61 (t' + 1) = rs := by rw [eC 61 _ (Or.inl rfl), if_pos ⟨rfl, rfl⟩]
        obtain ⟨w, g4, σ4, G1, G2, G3, G4, G5, G6⟩ := goal_l hTD' (t := t') (by omega) hg61 (by rw [hg61']; exact hrsr)
          (by rw [eD sa _ c4 hsav, eC 61 _ (Or.inl rfl), if_neg (by rintro ⟨-, q⟩; omega), if_neg (by rintro ⟨-, q⟩; omega)]; exact h8.1.1)
          (by rw [eD ra _ d4 hrav, eC 62 _ (Or.inr (Or.inl rfl)), if_neg (by rintro ⟨-, q⟩; omega), if_neg (by rintro ⟨q, -⟩; omega)]; exact h8.2.1.1)
        rw [hpc] at G1
        have hT4 : TW g4 ρ a sc v u x sa ra oa r m n k h σ4 := hTD'.to (G3.mono (fun _ _ k => Or.inl k)) (G5.mono (fun _ k => k) (by decide))
        obtain ⟨-, ⟨⟨Gu1, Gu2, Gu3⟩, ⟨Gf0, Gf1, Gf2, Gf3, Gf7⟩, ⟨-, ⟨Gd1, Gd2, Gd3, Gd4⟩, -⟩, -⟩, -, -, GSt, -, GR⟩ := hT4
        have hW := GR.2.2.1
        have e53 : m_A σ4 53 = m_A σ1 53 := by rw [G5.Af (by decide), hMC.Af (by decide)]
        have er : gI g4 ra t' = gI g1 ra t' := by rw [G3.I (by rw [zD]; exact d4) hrav, eD ra _ d4 hrav, if_neg (by rintro ⟨-, q⟩; omega)]
        have er' : gI (pI gB sa (t' + 1) rs) ra t' = gI g1 ra t' := by rw [eD ra _ d4 hrav, if_neg (by rintro ⟨-, q⟩; omega)]
        have em : m_A σ4 62 t' = gI g1 ra t' := by rw [G5.A (by decide), eC 62 _ (Or.inr (Or.inl rfl)), if_neg (by rintro ⟨q, -⟩; omega), h8.2.1.1]
        have hrr : 0 ≤ (gI g1 ra t').toInt ∧ (gI g1 ra t').toInt ≤ 999 := by rw [h8.2.1.1]; exact h8.2.1.2
        have en : (0 : Int32) - m_A σ4 53 2 = -(m_A σ4 53 2) := Int32.zero_sub _
        have ew : (w - gI g1 ra t').toInt = w.toInt - (gI g1 ra t').toInt := i_sub (by omega) (by omega)
        have enn : (-(m_A σ4 53 2)).toInt = -(m_A σ4 53 2).toInt := i_neg (by omega)
        have hbd := bd_rg (v := w - gI g1 ra t') (a := -(m_A σ4 53 2)) (b := m_A σ4 53 2) (by rw [enn]; omega)
        have hring : 0 ≤ (gI g1 ra t' + bd_ (w - gI g1 ra t') (-(m_A σ4 53 2)) (m_A σ4 53 2)).toInt ∧ (gI g1 ra t' + bd_ (w - gI g1 ra t') (-(m_A σ4 53 2)) (m_A σ4 53 2)).toInt ≤ 999 := by
          rw [enn] at hbd
          rw [i_add (by omega) (by omega)]
          unfold bd_ at hbd ⊢
          simp only [i_le, ew, enn] at hbd ⊢
          split at hbd
          · rename_i z1
            rw [if_pos z1]
            split at hbd
            · rename_i z2
              rw [if_pos z2, ew]
              omega
            · rename_i z2
              rw [if_neg z2]
              omega
          · rename_i z1
            rw [if_neg z1, enn]
            omega
        obtain ⟨g5, σ5, w1, w2, w3, w4, w5, w6⟩ := fin g4 σ4 _ G3 G4 G5 hring
        refine ⟨(nI (t' + 1) + 1, g5), (nI (t' + 1) + 1, σ5), j - 1, by omega, bodyX _ ?_, bodyM _ ?_, t' + 1 + 1, nI_1 _, nI_1 _, by omega, by omega, w3, w4, w5, w6⟩
        · rw [if_neg (nI_ne0 (by omega) (by omega)), Df2, e_nn, e_rk (by rw [Dd1]), nI_pred, e_inN (by rw [Dd2]; omega) (by rw [Dd2]; omega), G1, e_cb, e_wk Gu1, Gf2, e_nn, e_rk (by rw [Gd1]), e_inN (by rw [Gd2]; omega) (by rw [Gd2]; omega), Gf0, e_nn, e_wk GSt.1, e_nn, e_wk GSt.1, GSt.2.2.2.1.2.2.1, nI_clamp (by omega), er, er', X1_kept_l (by rw [i_le, enn]; omega), e_ob, w1]
        · rw [if_neg (nI_ne0 (by omega) (by omega)), G2, e_cb, e_i2 (by omega) (by omega), nI_pred, e_inN (by omega) (by omega), e_inN (by omega) (by omega), cl_2, nI_clamp (by omega), em, en, X4_bounded_l, e_ob, e_inN (by omega) (by omega), nI_clamp (by omega), w2]
    · have htT : t = T + 1 := by omega
      subst htT
      refine Or.inr ⟨g1, σ1, ?_, ?_, e5, e6, e7, e8⟩
      · show X11_run_b2 u (nI (T + 1)) g1 = _
        unfold X11_run_b2
        rw [e_wk u1, f7, e_nn, e_wk a1, a4, e_nn, e_wk s1, hlast, if_pos (nI_lt (by omega) (by omega))]
      · show X4_goesThrough_b7 (nI T) (nI (T + 1)) σ1 = _
        unfold X4_goesThrough_b7
        rw [if_pos (nI_lt (by omega) (by omega))]
  refine ⟨ge, σe, ?_, ?_, m3, m4, m5, m6⟩
  · unfold X11_run
    rw [m1, e_ob]
  · unfold X4_goesThrough
    rw [X4_last_l p1 p2, e_ob, hTn, m2, e_ob]
end
section
/-! LAWS: what is asked of a take (own work) -/
set_option maxRecDepth 100000
def it_ {α : Type} (F : Nat → α → α) (s : α) : Nat → α
  | 0 => s
  | t + 1 => F t (it_ F s t)
/-- a loop over t = 0 .. T -/
theorem for_l {α β ε : Type} (enc : α → Nat → β) (body : β → Option (β ⊕ ε)) (T : Nat) (F : Nat → α → α) (ex : α → ε) (P : Nat → α → Prop) (hP : ∀ t s, t ≤ T → P t s → P (t + 1) (F t s))
    (hs : ∀ t s, t ≤ T → P t s → body (enc s t) = some (.inl (enc (F t s) (t + 1)))) (he : ∀ s, P (T + 1) s → body (enc s (T + 1)) = some (.inr (ex s))) (s : α) (h0 : P 0 s) {n : Nat} (hn : T + 1 < n) : lp_ body n (enc s 0) = some (ex (it_ F s (T + 1))) ∧ P (T + 1) (it_ F s (T + 1)) := by
  have key : ∀ t, t ≤ T + 1 → LS_ body t (enc s 0) (enc (it_ F s t) t) ∧ P t (it_ F s t) := by
    intro t
    induction t with
    | zero => intro _; exact ⟨LS_.rf, h0⟩
    | succ t ih =>
      intro ht
      obtain ⟨h1, h2⟩ := ih (by omega)
      exact ⟨h1.trans (LS_.one (hs t _ (by omega) h2)), hP t _ (by omega) h2⟩
  obtain ⟨h1, h2⟩ := key (T + 1) (Nat.le_refl _)
  obtain ⟨f, rfl⟩ : ∃ f, n = (f + 1) + (T + 1) := ⟨n - 1 - (T + 1), by omega⟩
  rw [h1 (f + 1)]
  exact ⟨lp_end (he _ h2) f, h2⟩
/-- an allocating loop that allocates nothing -/
theorem fora_l {α β ε : Type} (enc : α → Nat → β) (body : β → Option ((β ⊕ ε) × Nat × Nat)) (T : Nat) (F : Nat → α → α) (ex : α → ε) (P : Nat → α → Prop) (hP : ∀ t s, t ≤ T → P t s → P (t + 1) (F t s))
    (hs : ∀ t s, t ≤ T → P t s → body (enc s t) = some (.inl (enc (F t s) (t + 1)), 0, 0)) (he : ∀ s, P (T + 1) s → body (enc s (T + 1)) = some (.inr (ex s), 0, 0)) (s : α) (h0 : P 0 s) {n : Nat} (hn : T + 1 < n) : la_ body n (enc s 0) = some (ex (it_ F s (T + 1)), 0, 0) ∧ P (T + 1) (it_ F s (T + 1)) := by
  have key : ∀ d t, t + d = T + 1 → P t (it_ F s t) → ∀ f, d < f → la_ body f (enc (it_ F s t) t) = some (ex (it_ F s (T + 1)), 0, 0) ∧ P (T + 1) (it_ F s (T + 1)) := by
    intro d
    induction d with
    | zero =>
      intro t ht hp f hf
      have : t = T + 1 := by omega
      subst this
      obtain ⟨f', rfl⟩ : ∃ f', f = f' + 1 := ⟨f - 1, by omega⟩
      refine ⟨?_, hp⟩
      rw [la_, he _ hp]
    | succ d ih =>
      intro t ht hp f hf
      obtain ⟨f', rfl⟩ : ∃ f', f = f' + 1 := ⟨f - 1, by omega⟩
      obtain ⟨h1, h2⟩ := ih (t + 1) (by omega) (hP t _ (by omega) hp) f' (by omega)
      refine ⟨?_, h2⟩
      rw [la_, hs t _ (by omega) hp]
      show bp_ 0 0 (la_ body f' (enc (it_ F s (t + 1)) (t + 1))) = _
      rw [bp_0, h1]
  exact key (T + 1) 0 (by omega) h0 n hn
/-- what the questions look at: the take's off, and how long the scene is -/
def OfP (g : GS) (u oa T : Nat) (f : Nat → Int32) : Prop := gK g u = 10 ∧ (∃ a sc, gR g u 7 = a + 1 ∧ gK g a = 1 ∧ gR g a 0 = sc + 1 ∧ gK g sc = 2 ∧ gI g sc 6 = nI T) ∧ T ≤ 600 ∧ gR g u 3 = oa + 1 ∧ gK g oa = 100 ∧ gN g oa = 601 ∧ ∀ t, t ≤ T → gI g oa t = f t
def LaP (σ : MS) (n T : Nat) : Prop := m_I σ 2 = nI n ∧ n ≤ 12 ∧ sm_ (m_A σ 9) n = nI T ∧ T ≤ 600
theorem LaP.l {σ : MS} {n T : Nat} (h : LaP σ n T) : X4_last σ = some (nI T) := by rw [X4_last_l h.1 h.2.1, h.2.2.1]
def sh_ (hole v : Int32) : Int32 := if hole < jabs_ v then 0 else 1
theorem sh_01 {hole v : Int32} : sh_ hole v = 0 ∨ sh_ hole v = 1 := by
  unfold sh_
  split
  · exact Or.inl rfl
  · exact Or.inr rfl
theorem X11_isSharp_l {g : GS} {u oa T : Nat} {f : Nat → Int32} (h : OfP g u oa T f) {t : Nat} (ht : t ≤ T) {hole : Int32} : X11_isSharp u (nI t) hole g = some (sh_ hole (f t)) := by
  obtain ⟨h1, -, h3, h4, h5, h6, h7⟩ := h
  unfold X11_isSharp sh_
  rw [e_wk h1, h4, e_nn, e_rk (by rw [h5]), e_inN (by rw [h6]; omega) (by rw [h6]; omega), nI_clamp (by omega), h7 t ht]
  split <;> rfl
theorem X11_isSharp2_l {g : GS} {u oa T x : Nat} {f : Nat → Int32} (h : OfP g u oa T f) (hx : gR g u 0 = x + 1) (hk : gK g x = 3) {t : Nat} (ht : t ≤ T) : X11_isSharp_2 u (nI t) g = some (sh_ (gI g x 0) (f t)) := by
  unfold X11_isSharp_2
  rw [e_wk h.1, hx, e_nn, e_wk hk, X11_isSharp_l h ht, e_ob]
  rcases sh_01 (hole := gI g x 0) (v := f t) with q | q <;> rw [q] <;> rfl
theorem off0_l {v : Int32} : X4_off v 0 = some (jabs_ v) := by
  unfold X4_off jabs_
  split
  · rw [Int32.sub_zero]
  · rfl
theorem X4_isSharp_l {σ : MS} {t : Nat} (ht : t ≤ 600) : X4_isSharp (nI t) σ = some (sh_ (m_A σ 53 0) (m_A σ 63 t)) := by
  unfold X4_isSharp sh_
  rw [e_inN (by omega) (by omega), nI_clamp (by omega), off0_l, e_ob, e_i0 (by omega) (by omega), cl_0]
  split <;> rfl
/-! how many are sharp -/
def cF (f : Nat → Int32) (hole : Int32) : Nat → Int32 → Int32 := fun t c => c + sh_ hole (f t)
def cnt_ (f : Nat → Int32) (hole : Int32) (T : Nat) : Int32 := it_ (cF f hole) 0 (T + 1)
theorem cnt_rg {f : Nat → Int32} {hole : Int32} : ∀ t, t ≤ 2000 → 0 ≤ (it_ (cF f hole) 0 t).toInt ∧ (it_ (cF f hole) 0 t).toInt ≤ t := by
  intro t
  induction t with
  | zero => intro _; exact ⟨Int.le_refl 0, Int.le_refl 0⟩
  | succ t ih =>
    intro ht
    have h1 := ih (by omega)
    show 0 ≤ (it_ (cF f hole) 0 t + sh_ hole (f t)).toInt ∧ _
    have h2 : 0 ≤ (sh_ hole (f t)).toInt ∧ (sh_ hole (f t)).toInt ≤ 1 := by
      rcases sh_01 (hole := hole) (v := f t) with q | q <;> rw [q] <;> decide
    have e : (it_ (cF f hole) 0 (t + 1)).toInt = (it_ (cF f hole) 0 t).toInt + (sh_ hole (f t)).toInt := i_add (by omega) (by omega)
    rw [e]
    have e' : (it_ (cF f hole) 0 t + sh_ hole (f t)).toInt = (it_ (cF f hole) 0 t).toInt + (sh_ hole (f t)).toInt := i_add (by omega) (by omega)
    rw [e']
    omega
theorem X11_sharp2_l {g : GS} {u oa T : Nat} {f : Nat → Int32} (h : OfP g u oa T f) {hole : Int32} : X11_sharp_2 u hole g = some (cnt_ f hole T) := by
  have h0 := h
  obtain ⟨h1, ⟨a, sc, a1, a2, a3, a4, a5⟩, h3, h4⟩ := h
  obtain ⟨k1, -⟩ := for_l (enc := fun (c : Int32) t => (c, nI t)) (fun a : Int32 × Int32 => X11_sharp_2_b4 u hole g a.1 a.2) T (cF f hole) (fun c => c) (fun _ _ => True) (fun _ _ _ _ => trivial)
    (fun t c ht _ => by
      show X11_sharp_2_b4 u hole g c (nI t) = _
      unfold X11_sharp_2_b4 X11_sharp_2_j30
      rw [e_wk h1, a1, e_nn, e_wk a2, a3, e_nn, e_wk a4, a5, if_neg (nI_nlt ht (by omega)), X11_isSharp_l h0 ht, e_ob]
      show _ = some (Sum.inl (c + sh_ hole (f t), nI (t + 1)))
      rcases sh_01 (hole := hole) (v := f t) with q | q
      · rw [q, if_pos rfl, Int32.add_zero, nI_1]
      · rw [q, if_neg (by decide), nI_1])
    (fun c _ => by
      show X11_sharp_2_b4 u hole g c (nI (T + 1)) = _
      unfold X11_sharp_2_b4
      rw [e_wk h1, a1, e_nn, e_wk a2, a3, e_nn, e_wk a4, a5, if_pos (nI_lt (by omega) (by omega))]) 0 trivial (n := fu_) (by unfold fu_; omega)
  unfold X11_sharp_2
  rw [show (lp_ (fun a : Int32 × Int32 => X11_sharp_2_b4 u hole g a.1 a.2) fu_ (0, 0)) = _ from k1, e_ob]
  rfl
theorem X11_sharp_l {g : GS} {u oa T x : Nat} {f : Nat → Int32} (h : OfP g u oa T f) (hx : gR g u 0 = x + 1) (hk : gK g x = 3) : X11_sharp u g = some (cnt_ f (gI g x 0) T) := by
  unfold X11_sharp
  rw [e_wk h.1, hx, e_nn, e_wk hk, X11_sharp2_l h, e_ob]
theorem X4_sharpMany_l {σ : MS} {n T : Nat} (h : LaP σ n T) : X4_sharpMany σ = some (cnt_ (m_A σ 63) (m_A σ 53 0) T) := by
  have hT := h.2.2.2
  obtain ⟨k1, -⟩ := for_l (enc := fun (c : Int32) t => (c, nI t)) (fun a : Int32 × Int32 => X4_sharpMany_b4 σ a.1 a.2) T (cF (m_A σ 63) (m_A σ 53 0)) (fun c => c) (fun _ _ => True) (fun _ _ _ _ => trivial)
    (fun t c ht _ => by
      show X4_sharpMany_b4 σ c (nI t) = _
      unfold X4_sharpMany_b4 X4_sharpMany_j26
      rw [h.l, e_ob, if_neg (nI_nlt ht (by omega)), X4_isSharp_l (by omega), e_ob]
      show _ = some (Sum.inl (c + sh_ (m_A σ 53 0) (m_A σ 63 t), nI (t + 1)))
      rcases sh_01 (hole := m_A σ 53 0) (v := m_A σ 63 t) with q | q
      · rw [q, if_pos rfl, nI_1]
      · rw [q, if_neg (by decide), nI_1])
    (fun c _ => by
      show X4_sharpMany_b4 σ c (nI (T + 1)) = _
      unfold X4_sharpMany_b4
      rw [h.l, e_ob, if_pos (nI_lt (by omega) (by omega))]) 0 trivial (n := fu_) (by unfold fu_; omega)
  unfold X4_sharpMany
  rw [show (lp_ (fun a : Int32 × Int32 => X4_sharpMany_b4 σ a.1 a.2) fu_ (0, 0)) = _ from k1, e_ob]
  rfl
/-! the worst -/
def wF (f : Nat → Int32) : Nat → Int32 → Int32 := fun t c => jmax_ c (jabs_ (f t))
theorem X11_worst_l {g : GS} {u oa T : Nat} {f : Nat → Int32} (h : OfP g u oa T f) : X11_worst u g = some (it_ (wF f) 0 (T + 1)) := by
  obtain ⟨h1, ⟨a, sc, a1, a2, a3, a4, a5⟩, h3, h4, h5, h6, h7⟩ := h
  obtain ⟨k1, -⟩ := for_l (enc := fun (c : Int32) t => (c, nI t)) (fun a : Int32 × Int32 => X11_worst_b4 u g a.1 a.2) T (wF f) (fun c => c) (fun _ _ => True) (fun _ _ _ _ => trivial)
    (fun t c ht _ => by
      show X11_worst_b4 u g c (nI t) = _
      unfold X11_worst_b4
      rw [e_wk h1, a1, e_nn, e_wk a2, a3, e_nn, e_wk a4, a5, if_neg (nI_nlt ht (by omega)), h4, e_nn, e_rk (by rw [h5]), e_inN (by rw [h6]; omega) (by rw [h6]; omega), nI_clamp (by omega), h7 t ht, nI_1]
      rfl)
    (fun c _ => by
      show X11_worst_b4 u g c (nI (T + 1)) = _
      unfold X11_worst_b4
      rw [e_wk h1, a1, e_nn, e_wk a2, a3, e_nn, e_wk a4, a5, if_pos (nI_lt (by omega) (by omega))]) 0 trivial (n := fu_) (by unfold fu_; omega)
  unfold X11_worst
  rw [show (lp_ (fun a : Int32 × Int32 => X11_worst_b4 u g a.1 a.2) fu_ (0, 0)) = _ from k1, e_ob]
theorem X4_mostOff_l {σ : MS} {n T : Nat} (h : LaP σ n T) : X4_mostOff σ = some (it_ (wF (m_A σ 63)) 0 (T + 1)) := by
  have hT := h.2.2.2
  obtain ⟨k1, -⟩ := for_l (enc := fun (c : Int32) t => (c, nI t)) (fun a : Int32 × Int32 => X4_mostOff_b4 σ a.1 a.2) T (wF (m_A σ 63)) (fun c => c) (fun _ _ => True) (fun _ _ _ _ => trivial)
    (fun t c ht _ => by
      show X4_mostOff_b4 σ c (nI t) = _
      unfold X4_mostOff_b4 X4_mostOff_j40
      rw [h.l, e_ob, if_neg (nI_nlt ht (by omega)), e_inN (by omega) (by omega), nI_clamp (by omega), off0_l, e_ob]
      show _ = some (Sum.inl (jmax_ c (jabs_ (m_A σ 63 t)), nI (t + 1)))
      unfold jmax_
      by_cases q : jabs_ (m_A σ 63 t) ≤ c
      · rw [if_pos q, if_neg (by rw [nlt_le]; exact q), nI_1]
      · rw [if_neg q, if_pos (nle_lt.mp q), e_inN (by omega) (by omega), e_ob, nI_1])
    (fun c _ => by
      show X4_mostOff_b4 σ c (nI (T + 1)) = _
      unfold X4_mostOff_b4
      rw [h.l, e_ob, if_pos (nI_lt (by omega) (by omega))]) 0 trivial (n := fu_) (by unfold fu_; omega)
  unfold X4_mostOff
  rw [show (lp_ (fun a : Int32 × Int32 => X4_mostOff_b4 σ a.1 a.2) fu_ (0, 0)) = _ from k1, e_ob]
/-! the longest soft run -/
def lF (f : Nat → Int32) (hole : Int32) : Nat → Int32 × Int32 → Int32 × Int32 := fun t c => (jmax_ c.1 (if sh_ hole (f t) = 0 then c.2 + 1 else 0), if sh_ hole (f t) = 0 then c.2 + 1 else 0)
theorem X11_longestSoft_l {g : GS} {u oa T x : Nat} {f : Nat → Int32} (h : OfP g u oa T f) (hx : gR g u 0 = x + 1) (hk : gK g x = 3) : X11_longestSoft u g = some (it_ (lF f (gI g x 0)) (0, 0) (T + 1)).1 := by
  have h0 := h
  obtain ⟨h1, ⟨a, sc, a1, a2, a3, a4, a5⟩, h3, h4⟩ := h
  obtain ⟨k1, -⟩ := for_l (enc := fun (c : Int32 × Int32) t => (c.1, c.2, nI t)) (fun a : Int32 × Int32 × Int32 => X11_longestSoft_b6 u g a.1 a.2.1 a.2.2) T (lF f (gI g x 0)) (fun c => c.1) (fun _ _ => True) (fun _ _ _ _ => trivial)
    (fun t c ht _ => by
      show X11_longestSoft_b6 u g c.1 c.2 (nI t) = _
      unfold X11_longestSoft_b6 X11_longestSoft_j35
      rw [e_wk h1, a1, e_nn, e_wk a2, a3, e_nn, e_wk a4, a5, if_neg (nI_nlt ht (by omega)), X11_isSharp2_l h0 hx hk ht, e_ob]
      show _ = some (Sum.inl ((lF f (gI g x 0) t c).1, (lF f (gI g x 0) t c).2, nI (t + 1)))
      unfold lF
      rcases sh_01 (hole := gI g x 0) (v := f t) with q | q
      · rw [q, if_pos rfl, if_pos rfl, nI_1]
      · rw [q, if_neg (by decide), if_neg (by decide), nI_1])
    (fun c _ => by
      show X11_longestSoft_b6 u g c.1 c.2 (nI (T + 1)) = _
      unfold X11_longestSoft_b6
      rw [e_wk h1, a1, e_nn, e_wk a2, a3, e_nn, e_wk a4, a5, if_pos (nI_lt (by omega) (by omega))]) (0, 0) trivial (n := fu_) (by unfold fu_; omega)
  unfold X11_longestSoft
  rw [show (lp_ (fun a : Int32 × Int32 × Int32 => X11_longestSoft_b6 u g a.1 a.2.1 a.2.2) fu_ (0, 0, 0)) = _ from k1, e_ob]
theorem X4_longestSoft_l {σ : MS} {n T : Nat} (h : LaP σ n T) : X4_longestSoft σ = some (it_ (lF (m_A σ 63) (m_A σ 53 0)) (0, 0) (T + 1)).1 := by
  have hT := h.2.2.2
  obtain ⟨k1, -⟩ := for_l (enc := fun (c : Int32 × Int32) t => (c.1, c.2, nI t)) (fun a : Int32 × Int32 × Int32 => X4_longestSoft_b6 σ a.1 a.2.1 a.2.2) T (lF (m_A σ 63) (m_A σ 53 0)) (fun c => c.1) (fun _ _ => True) (fun _ _ _ _ => trivial)
    (fun t c ht _ => by
      show X4_longestSoft_b6 σ c.1 c.2 (nI t) = _
      have e : ∀ w, X4_longestSoft_j29 c.1 (nI t) w σ = some (.inl (jmax_ c.1 w, w, nI (t + 1))) := fun w => by
        unfold X4_longestSoft_j29 X4_longestSoft_j40 jmax_
        by_cases q : w ≤ c.1
        · rw [if_pos q, if_neg (by rw [nlt_le]; exact q), nI_1]
        · rw [if_neg q, if_pos (nle_lt.mp q), nI_1]
      unfold X4_longestSoft_b6
      rw [h.l, e_ob, if_neg (nI_nlt ht (by omega)), X4_isSharp_l (by omega), e_ob, e, e]
      show _ = some (Sum.inl ((lF (m_A σ 63) (m_A σ 53 0) t c).1, (lF (m_A σ 63) (m_A σ 53 0) t c).2, nI (t + 1)))
      unfold lF
      split <;> rfl)
    (fun c _ => by
      show X4_longestSoft_b6 σ c.1 c.2 (nI (T + 1)) = _
      unfold X4_longestSoft_b6
      rw [h.l, e_ob, if_pos (nI_lt (by omega) (by omega))]) (0, 0) trivial (n := fu_) (by unfold fu_; omega)
  unfold X4_longestSoft
  rw [show (lp_ (fun a : Int32 × Int32 × Int32 => X4_longestSoft_b6 σ a.1 a.2.1 a.2.2) fu_ (0, 0, 0)) = _ from k1, e_ob]
end
section
/-! LAWS: first soft tenth, swings, turned, what has been seen (own work) -/
set_option maxRecDepth 100000
theorem soft_l {g : GS} {u oa T x n : Nat} {σ : MS} (h : OfP g u oa T (m_A σ 63)) (hx : gR g u 0 = x + 1) (hk : gK g x = 3) (h0 : gI g x 0 = m_A σ 53 0) (hL : LaP σ n T) : ∃ r, X11_firstSoft u g = some r ∧ X4_firstSoft σ = some r := by
  have hh := h
  have hT := hL.2.2.2
  obtain ⟨h1, ⟨a, sc, a1, a2, a3, a4, a5⟩, h3, h4⟩ := h
  obtain ⟨e, e', m1, m2, m3⟩ := lp2_t (body := fun a => X11_firstSoft_b2 u g a) (body' := fun a => X4_firstSoft_b2 σ a) (I := fun k a b => ∃ t, a = nI t ∧ b = nI t ∧ t ≤ T + 1 ∧ k = T + 1 - t) (Q := fun e e' => e = e')
    (by
      rintro k a b ⟨t, rfl, rfl, t1, t2⟩
      unfold X11_firstSoft_b2 X4_firstSoft_b2
      rw [e_wk h1, a1, e_nn, e_wk a2, a3, e_nn, e_wk a4, a5, hL.l, e_ob]
      by_cases ht : t ≤ T
      · rw [if_neg (nI_nlt ht (by omega)), if_neg (nI_nlt ht (by omega)), X11_isSharp2_l hh hx hk ht, e_ob, X4_isSharp_l (by omega), e_ob, h0]
        rcases sh_01 (hole := m_A σ 53 0) (v := m_A σ 63 t) with q | q
        · rw [q, if_pos rfl]
          exact Or.inr ⟨_, _, rfl, rfl, rfl⟩
        · rw [q, if_neg (by decide)]
          exact Or.inl ⟨_, _, k - 1, by omega, rfl, rfl, t + 1, nI_1 t, nI_1 t, by omega, by omega⟩
      · rw [if_pos (nI_lt (by omega) (by omega)), if_pos (nI_lt (by omega) (by omega))]
        exact Or.inr ⟨_, _, rfl, rfl, rfl⟩)
    fu_ (T + 1) 0 0 ⟨0, rfl, rfl, Nat.zero_le _, rfl⟩ (by unfold fu_; omega)
  subst m3
  refine ⟨e.elim id (fun _ => -1), ?_, ?_⟩
  · unfold X11_firstSoft
    rw [m1, e_ob]
    cases e <;> rfl
  · unfold X4_firstSoft
    rw [m2, e_ob]
    cases e <;> rfl
/-! swings -/
def sg_ (v : Int32) : Int32 := if 0 < v then 1 else if v < 0 then -1 else 0
theorem sg_all : ∀ n : Fin 1999, J19_signum (Int32.ofInt ((n.val : Int) - 999)) = some (sg_ (Int32.ofInt ((n.val : Int) - 999))) := by decide +kernel
theorem sg_l {v : Int32} (h : -999 ≤ v.toInt ∧ v.toInt ≤ 999) : J19_signum v = some (sg_ v) := by
  have e : v = Int32.ofInt ((((v.toInt + 999).toNat : Nat) : Int) - 999) := by
    rw [i_eq, Int32.toInt_ofInt_of_le (by omega) (by omega)]
    omega
  rw [e]
  exact sg_all ⟨(v.toInt + 999).toNat, by omega⟩
def sF (f : Nat → Int32) : Nat → Int32 × Int32 → Int32 × Int32 := fun t c => if sg_ (f t) = 0 then c else (if c.2 = -(sg_ (f t)) then c.1 + 1 else c.1, sg_ (f t))
theorem sg_3 {v : Int32} : sg_ v = 0 ∨ sg_ v = 1 ∨ sg_ v = -1 := by
  unfold sg_
  split
  · exact Or.inr (Or.inl rfl)
  · split
    · exact Or.inr (Or.inr rfl)
    · exact Or.inl rfl
theorem X11_swings_l {g : GS} {u oa T : Nat} {f : Nat → Int32} (h : OfP g u oa T f) (hf : ∀ t, t ≤ T → -999 ≤ (f t).toInt ∧ (f t).toInt ≤ 999) : X11_swings u g = some (it_ (sF f) (0, 0) (T + 1)).1 := by
  obtain ⟨h1, ⟨a, sc, a1, a2, a3, a4, a5⟩, h3, h4, h5, h6, h7⟩ := h
  obtain ⟨k1, -⟩ := for_l (enc := fun (c : Int32 × Int32) t => (c.1, c.2, nI t)) (fun a : Int32 × Int32 × Int32 => X11_swings_b6 u g a.1 a.2.1 a.2.2) T (sF f) (fun c => c.1) (fun _ _ => True) (fun _ _ _ _ => trivial)
    (fun t c ht _ => by
      show X11_swings_b6 u g c.1 c.2 (nI t) = some (Sum.inl ((sF f t c).1, (sF f t c).2, nI (t + 1)))
      unfold X11_swings_b6 X11_swings_j49 X11_swings_j52 sF
      rw [e_wk h1, a1, e_nn, e_wk a2, a3, e_nn, e_wk a4, a5, if_neg (nI_nlt ht (by omega)), h4, e_nn, e_rk (by rw [h5]), e_inN (by rw [h6]; omega) (by rw [h6]; omega), nI_clamp (by omega), h7 t ht, sg_l (hf t ht), e_ob, nI_1]
      by_cases q : sg_ (f t) = 0
      · rw [if_pos q, if_pos q]
      · rw [if_neg q, if_neg q]
        split <;> rfl)
    (fun c _ => by
      show X11_swings_b6 u g c.1 c.2 (nI (T + 1)) = _
      unfold X11_swings_b6
      rw [e_wk h1, a1, e_nn, e_wk a2, a3, e_nn, e_wk a4, a5, if_pos (nI_lt (by omega) (by omega))]) (0, 0) trivial (n := fu_) (by unfold fu_; omega)
  unfold X11_swings
  rw [show (lp_ (fun a : Int32 × Int32 × Int32 => X11_swings_b6 u g a.1 a.2.1 a.2.2) fu_ (0, 0, 0)) = _ from k1, e_ob]
theorem X4_swings_l {σ : MS} {n T : Nat} (h : LaP σ n T) : X4_swings σ = some (it_ (sF (m_A σ 63)) (0, 0) (T + 1)).1 := by
  have hT := h.2.2.2
  obtain ⟨k1, -⟩ := for_l (enc := fun (c : Int32 × Int32) t => (c.1, c.2, nI t)) (fun a : Int32 × Int32 × Int32 => X4_swings_b6 σ a.1 a.2.1 a.2.2) T (sF (m_A σ 63)) (fun c => c.1) (fun _ c => c.2 = 0 ∨ c.2 = 1 ∨ c.2 = -1)
    (fun t c _ hc => by
      unfold sF
      split
      · exact hc
      · exact sg_3)
    (fun t c ht hc => by
      show X4_swings_b6 σ c.1 c.2 (nI t) = some (Sum.inl ((sF (m_A σ 63) t c).1, (sF (m_A σ 63) t c).2, nI (t + 1)))
      have key : X4_swings_j41 c.1 c.2 (nI t) (sg_ (m_A σ 63 t)) σ = some (Sum.inl ((sF (m_A σ 63) t c).1, (sF (m_A σ 63) t c).2, nI (t + 1))) := by
        unfold X4_swings_j41 X4_swings_j72 X4_swings_j66 X4_swings_j67 sF
        obtain ⟨c1, c2⟩ := c
        simp only at hc ⊢
        rcases sg_3 (v := m_A σ 63 t) with q | q | q <;> rw [q] <;> rcases hc with rfl | rfl | rfl <;> simp only [X4_swings_j72, Int32.add_zero, nI_1] <;> rfl
      have e : sg_ (m_A σ 63 t) = if m_A σ 63 t ≤ 0 then if 0 ≤ m_A σ 63 t then 0 else -1 else 1 := by
        unfold sg_
        simp only [i_le, i_lt, k_0]
        split <;> (try split) <;> (try split) <;> (try split) <;> first | rfl | omega
      unfold X4_swings_b6
      rw [h.l, e_ob, if_neg (nI_nlt ht (by omega)), e_inN (by omega) (by omega), nI_clamp (by omega)]
      rw [← key, e]
      by_cases q1 : m_A σ 63 t ≤ 0
      · rw [if_pos q1, if_pos q1, e_inN (by omega) (by omega)]
        by_cases q2 : 0 ≤ m_A σ 63 t
        · rw [if_pos q2, if_pos q2]
        · rw [if_neg q2, if_neg q2]
      · rw [if_neg q1, if_neg q1])
    (fun c _ => by
      show X4_swings_b6 σ c.1 c.2 (nI (T + 1)) = _
      unfold X4_swings_b6
      rw [h.l, e_ob, if_pos (nI_lt (by omega) (by omega))]) (0, 0) (Or.inl rfl) (n := fu_) (by unfold fu_; omega)
  unfold X4_swings
  rw [show (lp_ (fun a : Int32 × Int32 × Int32 => X4_swings_b6 σ a.1 a.2.1 a.2.2) fu_ (0, 0, 0)) = _ from k1, e_ob]
/-! how far the ring has been turned -/
def tF (f : Nat → Int32) : Nat → Int32 → Int32 := fun t c => c + jabs_ (f (t + 1) - f t)
theorem X11_turned_l {g : GS} {u oa ra T : Nat} {f f2 : Nat → Int32} (h : OfP g u oa T f) (hr : gR g u 2 = ra + 1 ∧ gK g ra = 100 ∧ gN g ra = 601 ∧ ∀ t, t ≤ T → gI g ra t = f2 t) : X11_turned u g = some (it_ (tF f2) 0 T) := by
  obtain ⟨h1, ⟨a, sc, a1, a2, a3, a4, a5⟩, h3, -⟩ := h
  obtain ⟨r1, r2, r3, r4⟩ := hr
  have he : ∀ c, X11_turned_b4 u g c (nI (T + 1)) = some (.inr c) := fun c => by
    unfold X11_turned_b4
    rw [e_wk h1, a1, e_nn, e_wk a2, a3, e_nn, e_wk a4, a5, if_pos (nI_lt (by omega) (by omega))]
  have hs : ∀ t c, t < T → X11_turned_b4 u g c (nI (t + 1)) = some (.inl (c + jabs_ (f2 (t + 1) - f2 t), nI (t + 2))) := fun t c ht => by
    unfold X11_turned_b4
    rw [e_wk h1, a1, e_nn, e_wk a2, a3, e_nn, e_wk a4, a5, if_neg (nI_nlt (by omega) (by omega)), r1, e_nn, e_rk (by rw [r2]), e_inN (by rw [r3]; omega) (by rw [r3]; omega), e_nn, e_rk (by rw [r2]), nI_pred, e_inN (by rw [r3]; omega) (by rw [r3]; omega), nI_clamp (by omega), nI_clamp (by omega), r4 _ (by omega), r4 _ (by omega), nI_1]
  unfold X11_turned
  cases T with
  | zero =>
    obtain ⟨f, hf⟩ : ∃ f, fu_ = f + 1 := ⟨5999, rfl⟩
    rw [hf, lp_end (he 0), e_ob]
    rfl
  | succ T =>
    obtain ⟨k1, -⟩ := for_l (enc := fun (c : Int32) t => (c, nI (t + 1))) (fun a : Int32 × Int32 => X11_turned_b4 u g a.1 a.2) T (tF f2) (fun c => c) (fun _ _ => True) (fun _ _ _ _ => trivial) (fun t c ht _ => hs t c (by omega)) (fun c _ => he c) 0 trivial (n := fu_) (by unfold fu_; omega)
    rw [show (lp_ (fun a : Int32 × Int32 => X11_turned_b4 u g a.1 a.2) fu_ (0, 1)) = _ from k1, e_ob]
theorem X4_all6_l {σ : MS} {n T : Nat} {x1 : Int32} (h : LaP σ n T) (hx : x1 ≠ 5) (hr : ∀ t, t ≤ T → 0 ≤ (m_A σ 62 t).toInt ∧ (m_A σ 62 t).toInt ≤ 999) : lp_ (fun a : Int32 × Int32 × MS => X4_all_b74 x1 a.1 a.2.1 a.2.2) fu_ (0, 0, σ) = some (it_ (tF (m_A σ 62)) 0 T, σ) := by
  have hT := h.2.2.2
  obtain ⟨k1, -⟩ := for_l (enc := fun (c : Int32) t => (c, nI t, σ)) (fun a : Int32 × Int32 × MS => X4_all_b74 x1 a.1 a.2.1 a.2.2) T (fun t c => match t with
      | 0 => c
      | t + 1 => tF (m_A σ 62) t c) (fun c => (c, σ)) (fun _ _ => True) (fun _ _ _ _ => trivial)
    (fun t c ht _ => by
      show X4_all_b74 x1 c (nI t) σ = _
      unfold X4_all_b74 X4_all_j132 X4_all_j134
      rw [h.l, e_ob, if_neg (nI_nlt ht (by omega)), if_neg hx]
      cases t with
      | zero => rw [if_pos nI_0, Int32.add_zero, nI_1]
      | succ t =>
        have h1 := hr (t + 1) ht
        have h2 := hr t (by omega)
        rw [if_neg (nI_ne0 (by omega) (by omega)), e_inN (by omega) (by omega), nI_pred, e_inN (by omega) (by omega), nI_clamp (by omega), nI_clamp (by omega), (off_l (by omega) (by omega)).1, e_ob, nI_1]
        rfl)
    (fun c _ => by
      show X4_all_b74 x1 c (nI (T + 1)) σ = _
      unfold X4_all_b74
      rw [h.l, e_ob, if_pos (nI_lt (by omega) (by omega))]) 0 trivial (n := fu_) (by unfold fu_; omega)
  have e : ∀ t, it_ (fun t (c : Int32) => match t with
      | 0 => c
      | t + 1 => tF (m_A σ 62) t c) 0 (t + 1) = it_ (tF (m_A σ 62)) 0 t := by
    intro t
    induction t with
    | zero => rfl
    | succ t ih =>
      show tF (m_A σ 62) t (it_ _ 0 (t + 1)) = tF (m_A σ 62) t (it_ (tF (m_A σ 62)) 0 t)
      rw [ih]
  rw [e] at k1
  exact k1
/-! what has been seen -/
theorem seen_l {g : GS} {ρ : Nat → Nat} {u oa T x n a rf nf : Nat} {σ : MS} (h : OfP g u oa T (m_A σ 63)) (hx : gR g u 0 = x + 1) (hk : gK g x = 3) (h0 : gI g x 0 = m_A σ 53 0) (hL : LaP σ n T) (ha : gR g u 7 = a + 1)
    (hp : PlP g ρ rf a 8 nf (fun k => m_A σ 75 (2 * k)) (fun k => m_A σ 75 (2 * k + 1))) (hm : m_I σ 74 = nI nf) (hn8 : nf ≤ 8) (hb : ∀ k, k < nf → (0 ≤ (m_A σ 75 (2 * k)).toInt ∧ (m_A σ 75 (2 * k)).toInt ≤ T) ∧ (m_A σ 75 (2 * k + 1) = 0 ∨ m_A σ 75 (2 * k + 1) = 1)) :
    ∃ r, X11_isAsSeen u g = some r ∧ X4_isAsSeen σ = some r ∧ (r = 0 ∨ r = 1) := by
  have hh := h
  have hT := hL.2.2.2
  obtain ⟨h1, ⟨a', sc, a1, a2, -⟩, -⟩ := h
  have haa : a' = a := by rw [a1] at ha; omega
  subst haa
  obtain ⟨l, xs, l1, l2, l3, l4⟩ := hp
  obtain ⟨e, e', m1, m2, m3⟩ := lp2_t (body := fun a => X11_isAsSeen_b2 u g a) (body' := fun a => X4_isAsSeen_b2 σ a) (I := fun k a b => ∃ t, a = nI t ∧ b = nI t ∧ t ≤ nf ∧ k = nf - t) (Q := fun e e' => e = e')
    (by
      rintro k a b ⟨t, rfl, rfl, t1, t2⟩
      unfold X11_isAsSeen_b2 X4_isAsSeen_b2
      rw [e_wk h1, a1, e_nn, e_wk a2, l1, e_nn, e_wk l2.K, J2_size_l l2, e_ob, l3, hm]
      by_cases ht : t < nf
      · obtain ⟨y, hy⟩ := get_ex (xs := xs) (k := t) (by omega)
        obtain ⟨p1, p2, p3, p4, p5, p6⟩ := l4 t y hy
        obtain ⟨b1, b2⟩ := hb t ht
        obtain ⟨s, s1, s2, s3⟩ := i_nat (x := m_A σ 75 (2 * t)) b1.1
        have e2 : (2 : Int32) * nI t = nI (2 * t) := (Int32.ofNat_mul 2 t).symm
        rw [if_neg (nI_ge ht (by omega)), e_nn, e_wk a2, l1, e_nn, e_wk l2.K, J2_get_l l2 hy, e_ob, e_rk (by rw [p1]), e_i0 (by rw [p2]; omega) (by rw [p2]; omega), cl_0, p4]
        rw [if_neg (nI_ge ht (by omega)), e2, e_inN (by omega) (by omega), nI_clamp (by omega)]
        simp only [s1]
        rw [X11_isSharp2_l hh hx hk (by omega), e_ob, e_nn, e_wk a2, l1, e_nn, e_wk l2.K, J2_get_l l2 hy, e_ob, e_rk (by rw [p1]), e_i1 (by rw [p2]; omega) (by rw [p2]; omega), cl_1, p5]
        rw [X4_isSharp_l (by omega), e_ob, nI_1, e_inN (by omega) (by omega), nI_clamp (by omega), h0]
        have key : ∀ q : Int32, (X11_isAsSeen_j67 u (nI t) (sh_ (m_A σ 53 0) (m_A σ 63 s)) q g) = X4_isAsSeen_j41 (nI t) (sh_ (m_A σ 53 0) (m_A σ 63 s)) q σ := fun q => rfl
        rw [key, key]
        unfold X4_isAsSeen_j41
        have e1 : nI t + 1 = nI (t + 1) := nI_1 t
        rw [e1]
        by_cases q : m_A σ 75 (2 * t + 1) = 1
        · rw [if_pos q]
          split
          · exact Or.inl ⟨_, _, k - 1, by omega, rfl, rfl, t + 1, rfl, rfl, by omega, by omega⟩
          · exact Or.inr ⟨_, _, rfl, rfl, rfl⟩
        · rw [if_neg q]
          split
          · exact Or.inl ⟨_, _, k - 1, by omega, rfl, rfl, t + 1, rfl, rfl, by omega, by omega⟩
          · exact Or.inr ⟨_, _, rfl, rfl, rfl⟩
      · rw [if_pos (nI_le (by omega) (by omega)), if_pos (nI_le (by omega) (by omega))]
        exact Or.inr ⟨_, _, rfl, rfl, rfl⟩)
    fu_ nf 0 0 ⟨0, rfl, rfl, Nat.zero_le _, rfl⟩ (by unfold fu_; omega)
  subst m3
  refine ⟨e.elim (fun _ => 0) (fun _ => 1), ?_, ?_, ?_⟩
  · unfold X11_isAsSeen
    rw [m1, e_ob]
    cases e <;> rfl
  · unfold X4_isAsSeen
    rw [m2, e_ob]
    cases e <;> rfl
  · cases e
    · exact Or.inl rfl
    · exact Or.inr rfl
end
section
/-! LAWS: what shows (own work) -/
set_option maxRecDepth 100000
/-- behind a run -/
def AR (g : GS) (ρ : Nat → Nat) (a sc v u x sa ra oa r m n k h T : Nat) (σ : MS) : Prop := TW g ρ a sc v u x sa ra oa r m n k h σ ∧ ArP g sa ra oa σ (T + 1) ∧ sm_ (m_A σ 9) n = nI T ∧ T ≤ 600
theorem AR.la {g : GS} {ρ : Nat → Nat} {a sc v u x sa ra oa r m n k h T : Nat} {σ : MS} (hA : AR g ρ a sc v u x sa ra oa r m n k h T σ) : LaP σ n T := by
  obtain ⟨⟨⟨-, -, -, -, ⟨⟨p1, p2⟩, -⟩, -⟩, -⟩, -, h3, h4⟩ := hA
  exact ⟨p1, p2, h3, h4⟩
theorem AR.of {g : GS} {ρ : Nat → Nat} {a sc v u x sa ra oa r m n k h T : Nat} {σ : MS} (hA : AR g ρ a sc v u x sa ra oa r m n k h T σ) : OfP g u oa T (m_A σ 63) := by
  obtain ⟨⟨⟨⟨a1, a2, a3, a4, a5⟩, -, -, ⟨s1, s2, s3, s4, s5⟩, -⟩, ⟨⟨u1, -, -⟩, ⟨-, -, -, f3, f7⟩, ⟨-, -, ⟨o1, o2, -, -⟩⟩, -⟩, -⟩, h2, h3, h4⟩ := hA
  exact ⟨u1, ⟨a, sc, f7, a1, a4, s1, by rw [s5, h3]⟩, h4, f3, o1, o2, fun t ht => (h2 t (by omega)).2.2.1⟩
theorem AR.x {g : GS} {ρ : Nat → Nat} {a sc v u x sa ra oa r m n k h T : Nat} {σ : MS} (hA : AR g ρ a sc v u x sa ra oa r m n k h T σ) : gR g u 0 = x + 1 ∧ gK g x = 3 ∧ gI g x 0 = m_A σ 53 0 ∧ gK g u = 10 ∧ gR g u 7 = a + 1 ∧ gK g a = 1 := by
  obtain ⟨⟨⟨⟨a1, -⟩, -⟩, ⟨⟨u1, -, -⟩, ⟨f0, -, -, -, f7⟩, -⟩, -, -, hS, -⟩, -⟩ := hA
  exact ⟨f0, hS.1, hS.2.2.2.1.1, u1, f7, a1⟩
theorem AR.to {g g' : GS} {ρ : Nat → Nat} {a sc v u x sa ra oa r m n k h T : Nat} {σ σ' : MS} (hA : AR g ρ a sc v u x sa ra oa r m n k h T σ) (hF : Fr (fun q => q = v) g g') (hM : Mf [] [57, 58] σ σ') : AR g' ρ a sc v u x sa ra oa r m n k h T σ' := by
  obtain ⟨hT, h2, h3, h4⟩ := hA
  refine ⟨hT.to (hF.mono (fun _ _ k => Or.inl k)) (hM.mono (fun _ k => k) (by decide)), ?_, by rw [hM.Af (by decide)]; exact h3, h4⟩
  obtain ⟨⟨-, ⟨b1, b2, b3, b4⟩, -⟩, ⟨-, -, ⟨⟨c1, c2, c3, c4⟩, ⟨d1, d2, d3, d4⟩, ⟨o1, o2, o3, o4⟩⟩, -⟩, -⟩ := hT
  have n1 : ¬ sa = v := by intro q; rw [q, b3] at c3; omega
  have n2 : ¬ ra = v := by intro q; rw [q, b3] at d3; omega
  have n3 : ¬ oa = v := by intro q; rw [q, b3] at o3; omega
  intro s hs
  rw [hF.I c4 n1, hF.I d4 n2, hF.I o4 n3, hM.A (j := 61) (by decide), hM.A (j := 62) (by decide), hM.A (j := 63) (by decide)]
  exact h2 s hs
theorem shows_l {g : GS} {ρ : Nat → Nat} {a sc v u x sa ra oa r m n k h T : Nat} {σ : MS} (hA : AR g ρ a sc v u x sa ra oa r m n k h T σ) {t : Nat} (ht : t ≤ T) :
    ∃ w g' σ', X11_shows u (nI t) g = some (w, g') ∧ X4_isShown (nI t) σ = some (w, σ') ∧ Fr (fun q => q = v) g g' ∧ gz g' = gz g ∧ Mf [] [57, 58] σ σ' ∧ (w = 0 ∨ w = 1) := by
  have hof := hA.of
  have hla := hA.la
  obtain ⟨hx0, hxk, hh0, hu1, hu7, ha1⟩ := hA.x
  have hsh := X11_isSharp2_l hof hx0 hxk ht
  rw [hh0] at hsh
  have hsh4 := X4_isSharp_l (σ := σ) (t := t) (by have := hA.2.2.2; omega)
  have hT6 := hA.2.2.2
  obtain ⟨hT, hAr, h3, h4⟩ := hA
  have hT0 := hT
  obtain ⟨⟨⟨a1, a2, a3, a4, a5⟩, ⟨b1, b2, b3, b4⟩, hS5, hSc⟩, ⟨⟨u1, u2, u3⟩, ⟨f0, f1, f2, f3, f7⟩, ⟨-, -, ⟨o1, o2, o3, o4⟩⟩, -⟩, ⟨⟨n1, n1'⟩, -, -⟩, hr, hSt, ⟨hm, hm6⟩, hR⟩ := hT
  obtain ⟨⟨s1, s2, s3, s4, s5⟩, ⟨⟨p1, p2⟩, ⟨p3, p4⟩, p5, p6⟩, ⟨q1, q2, q3⟩, ⟨-, d2⟩, w1, w2, w3, w4⟩ := hSc
  obtain ⟨of0, -, -⟩ := (hAr t (by omega)).2.2
  have hti : (nI t).toInt = (t : Int) := i_n (by omega)
  rcases sh_01 (hole := m_A σ 53 0) (v := m_A σ 63 t) with hq | hq
  · rcases d2 with ⟨e1, e2⟩ | ⟨b, c, kk, e1, e2, e3, e4, e5, e6⟩
    · refine ⟨1, g, σ, ?_, ?_, Fr.rf, rfl, Mf.rf, Or.inr rfl⟩
      · unfold X11_shows
        rw [e_wk u1, hsh, e_ob, hq, if_pos rfl, f7, e_nn, e_wk a1, a4, e_nn, e_wk s1, if_pos e1]
      · unfold X4_isShown
        rw [hsh4, e_ob, hq, if_pos rfl, if_pos e2]
    · obtain ⟨jo, hjo⟩ : ∃ jo, jo = jabs_ (m_A σ 63 t) := ⟨_, rfl⟩
      obtain ⟨ho, hho⟩ : ∃ ho, ho = m_A σ 53 0 := ⟨_, rfl⟩
      obtain ⟨g2, hg2⟩ : ∃ g2, g2 = pI (pI g v 0 jo) v 1 ho := ⟨_, rfl⟩
      obtain ⟨σ2, hσ2⟩ : ∃ σ2, σ2 = s_A (s_A σ 57 6 jo) 57 7 ho := ⟨_, rfl⟩
      have hF2 : Fr (fun q => q = v) g g2 := by
        rw [hg2]
        exact (Fr.pI (W := fun q => q = v) rfl).trans (Fr.pI (W := fun q => q = v) rfl) (fun _ _ k => k)
      have hM2 : Mf [] [57] σ σ2 := by
        rw [hσ2]
        exact (Mf.sA (by decide)).trans (Mf.sA (LI := []) (LA := [57]) (by decide)) (fun _ k => k) (fun _ k => k)
      have hT2 := hT0.to (hF2.mono (fun _ _ k => Or.inl k)) (hM2.mono (LA := [57, 58, 61, 62, 63]) (fun _ k => k) (by decide))
      obtain ⟨⟨⟨A1, A2, A3, A4, A5⟩, ⟨B1, B2, B3, B4⟩, hS5', ⟨S1, S2, S3, S4, S5⟩, -, ⟨Q1, Q2, Q3⟩, -, -⟩, ⟨⟨U1, U2, U3⟩, ⟨F0, F1, F2, F3, F7⟩, -, -⟩, ⟨⟨N1, -⟩, -⟩, -, hSt2, -, -⟩ := hT2
      have e53 : m_A σ2 53 = m_A σ 53 := hM2.Af (by decide)
      obtain ⟨pl, hpl⟩ : ∃ pl, pl = ic_ (m_A σ 8) (m_A σ 9) n (m_I σ 1) (m_A σ 53 4) (m_I σ 59) (nI t) (wy_ (m_A σ 10) (m_A σ 11) (nI t) 0 k) := ⟨_, rfl⟩
      have hwho : X4_whoseIn (nI t) σ2 = some (wy_ (m_A σ 10) (m_A σ 11) (nI t) 0 k) := by
        unfold X4_whoseIn
        rw [X4_whoseBy_l (by rw [hM2.I (by decide)]; exact p3) p4, e_ob, hM2.Af (j := 10) (by decide), hM2.Af (j := 11) (by decide)]
      have hinc : X4_inchesOf (nI t) (wy_ (m_A σ 10) (m_A σ 11) (nI t) 0 k) σ2 = some pl := by
        rw [X4_inchesOf_l (n := n) (by rw [hM2.I (by decide)]; exact p1) p2 (by rw [hM2.Af (j := 8) (by decide), hM2.Af (j := 9) (by decide)]; exact w1) (by rw [hM2.I (by decide)]; exact w3) (by rw [hM2.I (by decide)]; omega) (by omega), hM2.Af (j := 8) (by decide), hM2.Af (j := 9) (by decide), hM2.I (k := 1) (by decide), hM2.I (k := 59) (by decide), hM2.A (j := 53) (by decide), hpl]
      have hhis : X2_isHis sc (nI t) g2 = some (wy_ (m_A σ 10) (m_A σ 11) (nI t) 0 k) := by
        have := X2_isHis_l (t := nI t) S1 Q2 p4 (by rw [hM2.Af (j := 10) (by decide), hM2.Af (j := 11) (by decide)]; exact w2)
        rw [hM2.Af (j := 10) (by decide), hM2.Af (j := 11) (by decide)] at this
        exact this
      have hin : X11_inches u (nI t) (wy_ (m_A σ 10) (m_A σ 11) (nI t) 0 k) g2 = some pl := by
        rw [X11_inches_l U1 A1 S1 hSt2.1 F7 A4 F0 Q1 p2 (by rw [hM2.Af (j := 8) (by decide), hM2.Af (j := 9) (by decide)]; exact w1) (by rw [N1, hM2.I (by decide)]; omega) (by omega), S4, N1, hSt2.2.2.2.1.2.2.2.2.2, e53, hM2.Af (j := 8) (by decide), hM2.Af (j := 9) (by decide), hM2.I (k := 1) (by decide), hM2.I (k := 59) (by decide), hpl]
      have hFL : FL [6, 7, 5] (pI g2 v 2 pl) ρ ff_ b c := by
        have z3' : FL [6, 7, 5] g2 ρ ff_ b c := (e2.le (n' := ff_) (by decide)).to hF2 (fun _ _ k => k) (fun q hq k k' => by rw [k', b3] at k; omega)
        exact z3'.to (W := fun q => q = v) (Fr.pI rfl) (fun _ _ k => k) (fun q hq k k' => by rw [k', b3] at k; omega)
      obtain ⟨w, v1, v2⟩ := ev_l (g := pI g2 v 2 pl) (v := v) (T := m_A (s_A σ2 57 5 pl) 57) hS5' (by rw [K_pI, B1]) (by rw [N_pI, B2]; exact ⟨by decide, by omega⟩) (fun w y hy => by
        have hw : w < 3 := (List.getElem?_eq_some_iff.mp hy).1
        rw [hg2, hσ2]
        simp only [rA_sA, I_pI]
        match w, hw, hy with
        | 0, _, hy => cases hy; exact ⟨6, by omega, rfl, rfl⟩
        | 1, _, hy => cases hy; exact ⟨7, by omega, rfl, rfl⟩
        | 2, _, hy => cases hy; exact ⟨5, by omega, rfl, rfl⟩) ff_ b c hFL
      have hM5 : Mf [] [57] σ (s_A σ2 57 5 pl) := hM2.trans (Mf.sA (LI := []) (LA := [57]) (by decide)) (fun _ k => k) (fun _ k => k)
      obtain ⟨σ5, k1, k2⟩ := reck_l v2 (σ := s_A σ2 57 5 pl) (k := kk) (by rw [hM5.Af (by decide)]; exact e4) e5 e6 (fun _ _ => rfl)
      have hscv : ¬ sc = v := by intro q; rw [q, b1] at s1; omega
      have hxv : ¬ x = v := by intro q; rw [q, b1] at hxk; omega
      have hoav : ¬ oa = v := by intro q; rw [q, b3] at o3; omega
      have ejo : jabs_ (gI g oa t) = jo := by rw [of0, hjo]
      have eho : gI (pI g v 0 jo) x 0 = ho := by rw [I_pI, if_neg (by rintro ⟨q, -⟩; exact hxv q), hh0, hho]
      refine ⟨if w ≤ 0 then 0 else 1, pI g2 v 2 pl, σ5, ?_, ?_, hF2.trans (Fr.pI (W := fun q => q = v) rfl) (fun _ _ k => k), by rw [z_pI, hg2]; rfl, (hM5.mono (LA := [57, 58]) (fun _ k => k) (by decide)).trans k2 (fun _ k => k) (by decide), ?_⟩
      · unfold X11_shows
        rw [e_wk u1, hsh, e_ob, hq, if_pos rfl, f7, e_nn, e_wk a1, a4, e_nn, e_wk s1, if_neg (by omega), e_nn, e_wk a1, a5, e_nn, f3, e_nn, e_rk (by rw [o1]), e_inN (by rw [o2]; omega) (by rw [o2]; omega), e_wk b1, e_i0 (by rw [b2]; omega) (by rw [b2]; omega), cl_0, nI_clamp (by omega), ejo]
        have b20 : (1 : Nat) < 5 := by omega
        simp only [R_pI, K_pI, N_pI, e_wk, e_nn, e_i1, f7, f0, a1, a5, a4, b1, b2, hxk, cl_1, cl_2, eho, show (1 : Nat) < 5 from by omega, show (2 : Nat) < 5 from by omega, show (5 : Nat) < 2 ^ 31 from by omega, s1]
        rw [← hg2, hhis, e_ob, hin, e_ob]
        simp only [e_i2, show (2 : Nat) < 5 from by omega, show (5 : Nat) < 2 ^ 31 from by omega, R_pI, K_pI, e_wk, e_nn, U1, F7, A1, A4, S1, A5, hF2.R s3 hscv, e1, v1, e_ob]
        split <;> rfl
      · unfold X4_isShown
        rw [hsh4, e_ob, hq, if_pos rfl, e3, if_neg (by rw [i_eq, i_n (by omega), k_n1]; omega), e_inN (by omega) (by omega), nI_clamp (by omega), off0_l, e_ob, ← hjo, e_i6 (by omega) (by omega), e_i0 (by omega) (by omega), e_i7 (by omega) (by omega), cl_6, cl_7, cl_0, ← hho, ← hσ2, hwho, e_ob, hinc, e_ob, e_i5 (by omega) (by omega), cl_5, k1, e_cb]
        split <;> rfl
      · split
        · exact Or.inl rfl
        · exact Or.inr rfl
  · refine ⟨0, g, σ, ?_, ?_, Fr.rf, rfl, Mf.rf, Or.inl rfl⟩
    · unfold X11_shows
      rw [e_wk u1, hsh, e_ob, hq, if_neg (by decide)]
    · unfold X4_isShown
      rw [hsh4, e_ob, hq, if_neg (by decide)]
theorem shown_l {g : GS} {ρ : Nat → Nat} {a sc v u x sa ra oa r m n k h T : Nat} {σ : MS} (hA : AR g ρ a sc v u x sa ra oa r m n k h T σ) :
    ∃ w g' σ', X11_shown u g = some (w, g') ∧ lp_ (fun a : Int32 × Int32 × MS => X4_all_b74 5 a.1 a.2.1 a.2.2) fu_ (0, 0, σ) = some (w, σ') ∧ Fr (fun q => q = v) g g' ∧ gz g' = gz g ∧ Mf [] [57, 58] σ σ' := by
  have hT6 := hA.2.2.2
  obtain ⟨e, e', m1, m2, m3, m4, m5, m6⟩ := lp2_t (body := fun a : Int32 × Int32 × GS => X11_shown_b4 u a.1 a.2.1 a.2.2) (body' := fun a : Int32 × Int32 × MS => X4_all_b74 5 a.1 a.2.1 a.2.2)
    (I := fun j a b => ∃ t, a.2.1 = nI t ∧ b.2.1 = nI t ∧ t ≤ T + 1 ∧ j = T + 1 - t ∧ a.1 = b.1 ∧ Fr (fun q => q = v) g a.2.2 ∧ gz a.2.2 = gz g ∧ Mf [] [57, 58] σ b.2.2)
    (Q := fun e e' => e.1 = e'.1 ∧ Fr (fun q => q = v) g e.2 ∧ gz e.2 = gz g ∧ Mf [] [57, 58] σ e'.2)
    (by
      rintro j ⟨c, i1, g1⟩ ⟨c2, i2, σ1⟩ ⟨t, e1, e2, t1, t2, e3, e4, e5, e6⟩
      simp only at e1 e2 e3 e4 e5 e6 ⊢
      subst e1 e2 e3
      have hA1 := hA.to e4 e6
      obtain ⟨h1, ⟨a', sc', a1, a2, a3, a4, a5⟩, -⟩ := hA1.of
      unfold X11_shown_b4 X4_all_b74 X11_shown_j29 X4_all_j101 X4_all_j134
      rw [e_wk h1, a1, e_nn, e_wk a2, a3, e_nn, e_wk a4, a5, hA1.la.l, e_ob]
      by_cases ht : t ≤ T
      · obtain ⟨w, g2, σ2, b1, b2, b3, b4, b5, b6⟩ := shows_l hA1 ht
        rw [if_neg (nI_nlt ht (by omega)), b1, e_cb, if_neg (nI_nlt ht (by omega)), if_pos rfl, b2, e_cb]
        rcases b6 with q | q
        · rw [q, if_pos rfl, if_pos rfl, Int32.add_zero]
          exact Or.inl ⟨_, _, j - 1, by omega, rfl, rfl, t + 1, nI_1 t, nI_1 t, by omega, by omega, rfl, e4.trans b3 (fun _ _ k => k), by show gz g2 = gz g; omega, e6.trans b5 (fun _ k => k) (fun _ k => k)⟩
        · rw [q, if_neg (by decide), if_neg (by decide)]
          exact Or.inl ⟨_, _, j - 1, by omega, rfl, rfl, t + 1, nI_1 t, nI_1 t, by omega, by omega, rfl, e4.trans b3 (fun _ _ k => k), by show gz g2 = gz g; omega, e6.trans b5 (fun _ k => k) (fun _ k => k)⟩
      · rw [if_pos (nI_lt (by omega) (by omega)), if_pos (nI_lt (by omega) (by omega))]
        exact Or.inr ⟨_, _, rfl, rfl, rfl, e4, e5, e6⟩)
    fu_ (T + 1) (0, 0, g) (0, 0, σ) ⟨0, rfl, rfl, Nat.zero_le _, rfl, rfl, Fr.rf, rfl, Mf.rf⟩ (by unfold fu_; omega)
  obtain ⟨e1, e2⟩ := e
  obtain ⟨f1, f2⟩ := e'
  simp only at m3 m4 m5 m6
  subst m3
  refine ⟨e1, e2, f2, ?_, m2, m4, m5, m6⟩
  unfold X11_shown
  rw [m1, e_ob]
end
section
/-! LAWS: the relation of the two objects (own work) -/
set_option maxRecDepth 100000
/-- the settings in force -/
def NowP (g : GS) (ρ : Nat → Nat) (a x m h : Nat) (σ : MS) : Prop := gR g a 1 = x + 1 ∧ SetP g ρ 2 x m (m_A σ 53) ∧ (m_I σ 4 = nI m ∧ m ≤ 6) ∧ RowOK (m_A σ 53) m h
def ZeP (σ : MS) : Prop := m_I σ 59 = 0 ∧ m_I σ 60 = 0 ∧ m_I σ 64 = 0
def TapP (g : GS) (ρ : Nat → Nat) (a : Nat) (σ : MS) : Prop :=
  (∃ tp, gR g a 3 = tp + 1 ∧ gK g tp = 101 ∧ gN g tp = 700 ∧ ρ tp = 7 ∧ tp < gz g ∧ ∀ i, i < 700 → gI g tp i = (m_A σ 14 i).toInt8.toInt32 ∧ 0 ≤ (m_A σ 14 i).toInt ∧ (m_A σ 14 i).toInt ≤ 255) ∧ (∃ t, t ≤ 700 ∧ gI g a 4 = nI t ∧ m_I σ 15 = nI t) ∧ gI g a 5 = m_I σ 17
def RefP (g : GS) (ρ : Nat → Nat) (a : Nat) (σ : MS) : Prop := ∃ rf, gR g a 6 = rf + 1 ∧ gK g rf = 100 ∧ gN g rf = 3 ∧ ρ rf = 8 ∧ rf < gz g ∧ ∀ i, i < 3 → gI g rf i = m_A σ 18 i
/-- acts: the settings before each; A tells which place was set, and what stood there -/
def AcR (g : GS) (ρ : Nat → Nat) (xs : List Nat) (m h : Nat) (row A : Nat → Int32) : Prop :=
  ∃ S : Nat → Nat → Int32, (∀ i, i < 6 + m → S xs.length i = row i) ∧ ∀ j y, xs[j]? = some y → SetP g ρ 0 y m (S j) ∧ RowOK (S j) m h ∧ ∃ q, q < 6 + m ∧ A (2 * j) = nI q ∧ ∀ i, i < 6 + m → S j i = if i = q then A (2 * j + 1) else S (j + 1) i
/-- a list of acts behind the field fld -/
def AcP (g : GS) (ρ : Nat → Nat) (r a fld m h : Nat) (row A : Nat → Int32) (cnt : Int32) : Prop := ∃ l xs, gR g a fld = l + 1 ∧ LiP g ρ r l xs ∧ cnt = nI xs.length ∧ xs.length ≤ 40 ∧ AcR g ρ xs m h row A
def FilN (A : Nat → Int32) (nf T : Nat) : Prop := nf ≤ 8 ∧ ∀ k, k < nf → (0 ≤ (A (2 * k)).toInt ∧ (A (2 * k)).toInt ≤ T) ∧ (A (2 * k + 1) = 0 ∨ A (2 * k + 1) = 1)
def FilP (g : GS) (ρ : Nat → Nat) (r a fld T : Nat) (A : Nat → Int32) (cnt : Int32) : Prop := ∃ nf, PlP g ρ r a fld nf (fun k => A (2 * k)) (fun k => A (2 * k + 1)) ∧ cnt = nI nf ∧ FilN A nf T
def BooP (g : GS) (ρ : Nat → Nat) (r a fld : Nat) (A : Nat → Int32) (cnt : Int32) : Prop := ∃ l ys, gR g a fld = l + 1 ∧ LiP g ρ r l ys ∧ cnt = nI ys.length ∧ ys.length ≤ 16 ∧ IP g ρ ys A ∧ ∀ i, i < ys.length → 12 ≤ (A i).toInt ∧ (A i).toInt ≤ 480
def KepP (g : GS) (ρ : Nat → Nat) (a : Nat) (σ : MS) : Prop := (gR g a 10 = 0 ∧ m_I σ 68 = -1) ∨ ∃ l ys, gR g a 10 = l + 1 ∧ LiP g ρ 0 l ys ∧ m_I σ 68 = nI ys.length ∧ ys.length ≤ 3 ∧ IP g ρ ys (m_A σ 70)
def ImgP (g : GS) (ρ : Nat → Nat) (a m h T : Nat) (σ : MS) : Prop := (gR g a 11 = 0 ∧ m_I σ 78 = 0) ∨ (m_I σ 78 = 1 ∧ (∃ x, gR g a 11 = x + 1 ∧ SetP g ρ 0 x m (m_A σ 82)) ∧ RowOK (m_A σ 82) m h ∧ AcP g ρ 0 a 12 m h (m_A σ 82) (m_A σ 83) (m_I σ 79) ∧ FilP g ρ 0 a 13 T (m_A σ 84) (m_I σ 80) ∧ BooP g ρ 0 a 14 (m_A σ 85) (m_I σ 81))
/-- a text: its bytes -/
def LitP (g : GS) (ρ : Nat → Nat) (q : Nat) (cs : List Nat) : Prop := gK g q = 1200 ∧ ρ q = 0 ∧ q < gz g ∧ gI g q 1 = 0 ∧ ∃ b, gR g q 0 = b + 1 ∧ gK g b = 1101 ∧ ρ b = 0 ∧ b < gz g ∧ gN g b = cs.length ∧ ∀ i c, cs[i]? = some c → gI g b i = nI c
def lits_ : List (List Nat) := [[98, 101, 104, 105, 110, 100], [104, 111, 108, 101], [108, 97, 103], [119, 114, 105, 115, 116], [101, 121, 101], [114, 105, 110, 103], [115, 104, 111, 119, 115], [105, 110, 99, 104], [111, 102, 102], [115, 101, 101, 110], [119, 97, 115], [116, 101, 110, 116, 104], [109, 97, 114, 107], [59, 40, 41, 43, 45, 42, 47, 60, 61], [110, 111, 116], [97, 110, 100], [111, 114], [103, 111], [115, 116, 97, 121], [104, 105, 109], [104, 101, 114], [104, 97, 110, 100], [102, 114, 111, 109]]
def EnvP (g : GS) (ρ : Nat → Nat) : Prop := EnE g ρ ∧ EnC g ρ ∧ (∃ d, gS g 3 = d + 1) ∧ (∃ d, gS g 4 = d + 1) ∧ (∃ d, gS g 5 = d + 1) ∧ ∀ i cs, lits_[i]? = some cs → LitP g ρ (gS g (10 + i)) cs
def OutP (g : GS) (ρ : Nat → Nat) (o : Nat) : Prop := gK g o = 106 ∧ gN g o = 1 ∧ ρ o = 50 ∧ o < gz g
def RelP (a o sc v n k h x m T : Nat) (g : GS) (ρ : Nat → Nat) (σ : MS) : Prop :=
  (CW g ρ a sc v n k h σ ∧ sm_ (m_A σ 9) n = nI T ∧ T ≤ 600) ∧ NowP g ρ a x m h σ ∧ ZeP σ ∧ TapP g ρ a σ ∧ RefP g ρ a σ ∧ AcP g ρ 3 a 7 m h (m_A σ 53) (m_A σ 55) (m_I σ 56) ∧ FilP g ρ 4 a 8 T (m_A σ 75) (m_I σ 74) ∧ BooP g ρ 5 a 9 (m_A σ 77) (m_I σ 76) ∧ KepP g ρ a σ ∧ ImgP g ρ a m h T σ ∧ EnvP g ρ ∧ OutP g ρ o
def Rel (a o : Nat) (g : GS) (σ : MS) : Prop := ∃ ρ sc v n k h x m T, RelP a o sc v n k h x m T g ρ σ
/-! each stays -/
theorem NowP.to {W : Nat → Prop} {g g' : GS} {ρ ρ' : Nat → Nat} {a x m h : Nat} {σ σ' : MS} (hp : NowP g ρ a x m h σ) (hF : Fr W g g') (hA : Ag g ρ ρ') (hW : ∀ q, q < gz g → ρ q = 2 ∨ ρ q = 0 → ¬ W q) (ha : gR g' a 1 = gR g a 1) (e4 : m_I σ' 4 = m_I σ 4) (e53 : m_A σ' 53 = m_A σ 53) : NowP g' ρ' a x m h σ' := by
  obtain ⟨h1, h2, h3, h4⟩ := hp
  exact ⟨by rw [ha, h1], by rw [e53]; exact h2.to hF hA hW, by rw [e4]; exact h3, by rw [e53]; exact h4⟩
theorem TapP.to {W : Nat → Prop} {g g' : GS} {ρ ρ' : Nat → Nat} {a : Nat} {σ σ' : MS} (hp : TapP g ρ a σ) (hF : Fr W g g') (hA : Ag g ρ ρ') (hW : ∀ q, q < gz g → ρ q = 7 → ¬ W q) (h3 : gR g' a 3 = gR g a 3) (h4 : gI g' a 4 = gI g a 4) (h5 : gI g' a 5 = gI g a 5) (e15 : m_I σ' 15 = m_I σ 15) (e17 : m_I σ' 17 = m_I σ 17) (e14 : m_A σ' 14 = m_A σ 14) : TapP g' ρ' a σ' := by
  obtain ⟨⟨tp, a1, a2, a3, a4, a5, a6⟩, ⟨t, b1, b2, b3⟩, c⟩ := hp
  refine ⟨⟨tp, by rw [h3, a1], by rw [hF.K a5, a2], by rw [hF.N a5, a3], by rw [hA tp a5, a4], hF.lt a5, fun i hi => ?_⟩, ⟨t, b1, by rw [h4, b2], by rw [e15, b3]⟩, by rw [h5, e17, c]⟩
  rw [hF.I a5 (hW tp a5 a4), e14]
  exact a6 i hi
theorem RefP.to {W : Nat → Prop} {g g' : GS} {ρ ρ' : Nat → Nat} {a : Nat} {σ σ' : MS} (hp : RefP g ρ a σ) (hF : Fr W g g') (hA : Ag g ρ ρ') (hW : ∀ q, q < gz g → ρ q = 8 → ¬ W q) (h6 : gR g' a 6 = gR g a 6) (e18 : m_A σ' 18 = m_A σ 18) : RefP g' ρ' a σ' := by
  obtain ⟨rf, a1, a2, a3, a4, a5, a6⟩ := hp
  exact ⟨rf, by rw [h6, a1], by rw [hF.K a5, a2], by rw [hF.N a5, a3], by rw [hA rf a5, a4], hF.lt a5, fun i hi => by rw [hF.I a5 (hW rf a5 a4), e18]; exact a6 i hi⟩
theorem AcR.to {W : Nat → Prop} {g g' : GS} {ρ ρ' : Nat → Nat} {xs : List Nat} {m h : Nat} {row A : Nat → Int32} (hp : AcR g ρ xs m h row A) (hF : Fr W g g') (hA : Ag g ρ ρ') (hW : ∀ q, q < gz g → ρ q = 0 → ¬ W q) : AcR g' ρ' xs m h row A := by
  obtain ⟨S, h1, h2⟩ := hp
  refine ⟨S, h1, fun j y hy => ?_⟩
  obtain ⟨b1, b2, b3⟩ := h2 j y hy
  exact ⟨b1.to hF hA (fun q hq k => hW q hq (k.elim id id)), b2, b3⟩
theorem AcP.to {W : Nat → Prop} {g g' : GS} {ρ ρ' : Nat → Nat} {r a fld m h : Nat} {row A : Nat → Int32} {cnt : Int32} (hp : AcP g ρ r a fld m h row A cnt) (hF : Fr W g g') (hA : Ag g ρ ρ') (hW : ∀ q, q < gz g → ρ q = r ∨ ρ q = 0 → ¬ W q) (ha : gR g' a fld = gR g a fld) : AcP g' ρ' r a fld m h row A cnt := by
  obtain ⟨l, xs, h1, h2, h3, h4, h5⟩ := hp
  exact ⟨l, xs, by rw [ha, h1], h2.to hF hA hW, h3, h4, h5.to hF hA (fun q hq k => hW q hq (Or.inr k))⟩
theorem FilP.to {W : Nat → Prop} {g g' : GS} {ρ ρ' : Nat → Nat} {r a fld T : Nat} {A : Nat → Int32} {cnt : Int32} (hp : FilP g ρ r a fld T A cnt) (hF : Fr W g g') (hA : Ag g ρ ρ') (hW : ∀ q, q < gz g → ρ q = r ∨ ρ q = 0 → ¬ W q) (ha : gR g' a fld = gR g a fld) : FilP g' ρ' r a fld T A cnt := by
  obtain ⟨nf, ⟨l, xs, h1, h2, h3, h4⟩, h5⟩ := hp
  exact ⟨nf, ⟨l, xs, by rw [ha, h1], h2.to hF hA hW, h3, h4.to hF hA (fun q hq k => hW q hq (Or.inr k))⟩, h5⟩
theorem BooP.to {W : Nat → Prop} {g g' : GS} {ρ ρ' : Nat → Nat} {r a fld : Nat} {A : Nat → Int32} {cnt : Int32} (hp : BooP g ρ r a fld A cnt) (hF : Fr W g g') (hA : Ag g ρ ρ') (hW : ∀ q, q < gz g → ρ q = r ∨ ρ q = 0 → ¬ W q) (ha : gR g' a fld = gR g a fld) : BooP g' ρ' r a fld A cnt := by
  obtain ⟨l, ys, h1, h2, h3, h4, h5, h6⟩ := hp
  exact ⟨l, ys, by rw [ha, h1], h2.to hF hA hW, h3, h4, h5.to hF hA (fun q hq k => hW q hq (Or.inr k)), h6⟩
theorem KepP.to {W : Nat → Prop} {g g' : GS} {ρ ρ' : Nat → Nat} {a : Nat} {σ σ' : MS} (hp : KepP g ρ a σ) (hF : Fr W g g') (hA : Ag g ρ ρ') (hW : ∀ q, q < gz g → ρ q = 0 → ¬ W q) (ha : gR g' a 10 = gR g a 10) (e68 : m_I σ' 68 = m_I σ 68) (e70 : m_A σ' 70 = m_A σ 70) : KepP g' ρ' a σ' := by
  rcases hp with ⟨h1, h2⟩ | ⟨l, ys, h1, h2, h3, h4, h5⟩
  · exact Or.inl ⟨by rw [ha, h1], by rw [e68, h2]⟩
  · exact Or.inr ⟨l, ys, by rw [ha, h1], h2.to hF hA (fun q hq k => hW q hq (k.elim id id)), by rw [e68, h3], h4, by rw [e70]; exact h5.to hF hA hW⟩
theorem ImgP.to {W : Nat → Prop} {g g' : GS} {ρ ρ' : Nat → Nat} {a m h T : Nat} {σ σ' : MS} (hp : ImgP g ρ a m h T σ) (hF : Fr W g g') (hA : Ag g ρ ρ') (hW : ∀ q, q < gz g → ρ q = 0 → ¬ W q) (ha : gR g' a 11 = gR g a 11 ∧ gR g' a 12 = gR g a 12 ∧ gR g' a 13 = gR g a 13 ∧ gR g' a 14 = gR g a 14) (eI : m_I σ' 78 = m_I σ 78 ∧ m_I σ' 79 = m_I σ 79 ∧ m_I σ' 80 = m_I σ 80 ∧ m_I σ' 81 = m_I σ 81) (eA : m_A σ' 82 = m_A σ 82 ∧ m_A σ' 83 = m_A σ 83 ∧ m_A σ' 84 = m_A σ 84 ∧ m_A σ' 85 = m_A σ 85) : ImgP g' ρ' a m h T σ' := by
  obtain ⟨a1, a2, a3, a4⟩ := ha
  obtain ⟨b1, b2, b3, b4⟩ := eI
  obtain ⟨c1, c2, c3, c4⟩ := eA
  have hW' : ∀ q, q < gz g → ρ q = 0 ∨ ρ q = 0 → ¬ W q := fun q hq k => hW q hq (k.elim id id)
  rcases hp with ⟨h1, h2⟩ | ⟨h1, ⟨x, h2, h3⟩, h4, h5, h6, h7⟩
  · exact Or.inl ⟨by rw [a1, h1], by rw [b1, h2]⟩
  · refine Or.inr ⟨by rw [b1, h1], ⟨x, by rw [a1, h2], ?_⟩, ?_, ?_, ?_, ?_⟩
    · rw [c1]; exact h3.to hF hA hW'
    · rw [c1]; exact h4
    · rw [c1, c2, b2]; exact h5.to hF hA hW' a2
    · rw [c3, b3]; exact h6.to hF hA hW' a3
    · rw [c4, b4]; exact h7.to hF hA hW' a4
theorem LitP.to {W : Nat → Prop} {g g' : GS} {ρ ρ' : Nat → Nat} {q : Nat} {cs : List Nat} (hp : LitP g ρ q cs) (hF : Fr W g g') (hA : Ag g ρ ρ') (hW : ∀ q, q < gz g → ρ q = 0 → ¬ W q) : LitP g' ρ' q cs := by
  obtain ⟨h1, h2, h3, h4, b, h5, h6, h7, h8, h9, h10⟩ := hp
  have k1 := hW q h3 h2
  have k2 := hW b h8 h7
  exact ⟨by rw [hF.K h3, h1], by rw [hA q h3, h2], hF.lt h3, by rw [hF.I h3 k1, h4], b, by rw [hF.R h3 k1, h5], by rw [hF.K h8, h6], by rw [hA b h8, h7], hF.lt h8, by rw [hF.N h8, h9], fun i c hc => by rw [hF.I h8 k2]; exact h10 i c hc⟩
theorem EnvP.to {W : Nat → Prop} {g g' : GS} {ρ ρ' : Nat → Nat} (hp : EnvP g ρ) (hF : Fr W g g') (hA : Ag g ρ ρ') (hW : ∀ q, q < gz g → ρ q = 0 → ¬ W q) : EnvP g' ρ' := by
  obtain ⟨h1, h2, h3, h4, h5, h6⟩ := hp
  refine ⟨h1.to hF hA, h2.to hF hA hW, by rw [hF.S]; exact h3, by rw [hF.S]; exact h4, by rw [hF.S]; exact h5, fun i cs hc => ?_⟩
  rw [hF.S]
  exact (h6 i cs hc).to hF hA hW
theorem OutP.to {W : Nat → Prop} {g g' : GS} {ρ ρ' : Nat → Nat} {o : Nat} (hp : OutP g ρ o) (hF : Fr W g g') (hA : Ag g ρ ρ') : OutP g' ρ' o := by
  obtain ⟨h1, h2, h3, h4⟩ := hp
  exact ⟨by rw [hF.K h4, h1], by rw [hF.N h4, h2], by rw [hA o h4, h3], hF.lt h4⟩
def relI : List Nat := [1, 2, 3, 4, 5, 6, 7, 15, 17, 56, 59, 60, 64, 68, 74, 76, 78, 79, 80, 81]
def relA : List Nat := [8, 9, 10, 11, 12, 13, 14, 18, 53, 55, 70, 75, 77, 82, 83, 84, 85]
/-- what a question leaves: nothing that counts has changed -/
def MEq (σ σ' : MS) : Prop := (∀ k, k ∈ relI → m_I σ' k = m_I σ k) ∧ ∀ j, j ∈ relA → m_A σ' j = m_A σ j
theorem MEq.rf {σ : MS} : MEq σ σ := ⟨fun _ _ => rfl, fun _ _ => rfl⟩
theorem MEq.trans {σ σ1 σ2 : MS} (h1 : MEq σ σ1) (h2 : MEq σ1 σ2) : MEq σ σ2 := ⟨fun k hk => (h2.1 k hk).trans (h1.1 k hk), fun j hj => (h2.2 j hj).trans (h1.2 j hj)⟩
theorem Mf.eq {LI LA : List Nat} {σ σ' : MS} (h : Mf LI LA σ σ') (hI : ∀ k, k ∈ relI → k ∉ LI) (hA : ∀ j, j ∈ relA → j ∉ LA) : MEq σ σ' := ⟨fun k hk => h.I (hI k hk), fun j hj => h.Af (hA j hj)⟩
/-- roles that a question writes: values, and what is of that call alone -/
def qW (r : Nat) : Prop := r = 6 ∨ 9 ≤ r
theorem RelP.to {W : Nat → Prop} {a o sc v n k h x m T : Nat} {g g' : GS} {ρ ρ' : Nat → Nat} {σ σ' : MS} (hp : RelP a o sc v n k h x m T g ρ σ) (hF : Fr W g g') (hA : Ag g ρ ρ') (hW : ∀ q, q < gz g → W q → q = a ∨ qW (ρ q)) (hR : ∀ i, gR g' a i = gR g a i) (hI : ∀ i, i ≠ 15 → gI g' a i = gI g a i) (hM : MEq σ σ') : RelP a o sc v n k h x m T g' ρ' σ' := by
  obtain ⟨⟨h1, h2, h3⟩, h4, h5, h6, h7, h8, h9, h10, h11, h12, h13, h14⟩ := hp
  obtain ⟨mI, mA⟩ := hM
  have hra : ρ a = 1 := h1.1.2.1
  have hN : ∀ r, r ≠ 1 → ¬ qW r → ∀ q, q < gz g → ρ q = r → ¬ W q := by
    intro r r1 r2 q hq k kw
    rcases hW q hq kw with e | e
    · rw [e, hra] at k; exact r1 k.symm
    · rw [k] at e; exact r2 e
  have q0 : ¬ qW 0 := by unfold qW; omega
  have q2 : ¬ qW 2 := by unfold qW; omega
  have q3 : ¬ qW 3 := by unfold qW; omega
  have q4 : ¬ qW 4 := by unfold qW; omega
  have q5 : ¬ qW 5 := by unfold qW; omega
  have q7 : ¬ qW 7 := by unfold qW; omega
  have q8 : ¬ qW 8 := by unfold qW; omega
  have n0 := hN 0 (by omega) q0
  have two : ∀ r, r ≠ 1 → ¬ qW r → ∀ q, q < gz g → ρ q = r ∨ ρ q = 0 → ¬ W q := fun r r1 r2 q hq k => k.elim (hN r r1 r2 q hq) (n0 q hq)
  refine ⟨⟨?_, by rw [mA 9 (by decide)]; exact h2, h3⟩, h4.to hF hA (two 2 (by omega) q2) (hR 1) (mI 4 (by decide)) (mA 53 (by decide)), ?_, h6.to hF hA (hN 7 (by omega) q7) (hR 3) (hI 4 (by decide)) (hI 5 (by decide)) (mI 15 (by decide)) (mI 17 (by decide)) (mA 14 (by decide)), h7.to hF hA (hN 8 (by omega) q8) (hR 6) (mA 18 (by decide)), ?_, ?_, ?_, h11.to hF hA n0 (hR 10) (mI 68 (by decide)) (mA 70 (by decide)), h12.to hF hA n0 ⟨hR 11, hR 12, hR 13, hR 14⟩ ⟨mI 78 (by decide), mI 79 (by decide), mI 80 (by decide), mI 81 (by decide)⟩ ⟨mA 82 (by decide), mA 83 (by decide), mA 84 (by decide), mA 85 (by decide)⟩, h13.to hF hA n0, h14.to hF hA⟩
  · obtain ⟨⟨a1, a2, a3, a4, a5⟩, ⟨b1, b2, b3, b4⟩, c1, c2⟩ := h1
    refine ⟨⟨by rw [hF.K a3, a1], by rw [hA a a3, a2], hF.lt a3, by rw [hR, a4], by rw [hR, a5]⟩, ⟨by rw [hF.K b4, b1], by rw [hF.N b4, b2], by rw [hA v b4, b3], hF.lt b4⟩, by rw [hF.S]; exact c1, ?_⟩
    have e1 := mI 1 (by decide)
    have e2 := mI 2 (by decide)
    have e3 := mI 3 (by decide)
    have e5 := mI 5 (by decide)
    have e6 := mI 6 (by decide)
    have e7 := mI 7 (by decide)
    have f8 := mA 8 (by decide)
    have f9 := mA 9 (by decide)
    have f10 := mA 10 (by decide)
    have f11 := mA 11 (by decide)
    have f12 := mA 12 (by decide)
    have f13 := mA 13 (by decide)
    have c2' := c2.to (LI := []) (LA := []) (σ' := σ) (ρ' := ρ') hF (fun q hq k => by rw [hA q hq, k]) n0 Mf.rf (by decide) (by decide)
    unfold ScP at c2' ⊢
    rw [e1, e2, e3, e5, e6, e7, f8, f9, f10, f11, f12, f13]
    exact c2'
  · obtain ⟨z1, z2, z3⟩ := h5
    exact ⟨by rw [mI 59 (by decide), z1], by rw [mI 60 (by decide), z2], by rw [mI 64 (by decide), z3]⟩
  · rw [mA 53 (by decide), mA 55 (by decide), mI 56 (by decide)]
    exact h8.to hF hA (two 3 (by omega) q3) (hR 7)
  · rw [mA 75 (by decide), mI 74 (by decide)]
    exact h9.to hF hA (two 4 (by omega) q4) (hR 8)
  · rw [mA 77 (by decide), mI 76 (by decide)]
    exact h10.to hF hA (two 5 (by omega) q5) (hR 9)
end
section
/-! LAWS: questions, their frame (own work) -/
set_option maxRecDepth 100000
def OpT (K : List (Nat × Int32)) (a o : Nat) (X : Option (((Int32 ⊕ (Nat × Nat)) × GS) × Nat × Nat)) (M : Option (Int32 × MS)) : Prop :=
  ∃ w g' dc ds r σ', X = some ((w, g'), dc, ds) ∧ M = some (r, σ') ∧ Rel a o g' σ' ∧ dc ≤ 18000 ∧ ds ≤ 80000 ∧ ((w = .inl r ∧ m_I σ' 0 = 0) ∨ ∃ e q, w = .inr (e, q) ∧ (e, m_I σ' 0) ∈ K)
def OpI (a o : Nat) (X : Option ((Int32 × GS) × Nat × Nat)) (M : Option (Int32 × MS)) : Prop :=
  ∃ r g' dc ds σ', X = some ((r, g'), dc, ds) ∧ M = some (r, σ') ∧ Rel a o g' σ' ∧ dc ≤ 18000 ∧ ds ≤ 80000
theorem OpT.ok {K : List (Nat × Int32)} {a o : Nat} {X : Option (((Int32 ⊕ (Nat × Nat)) × GS) × Nat × Nat)} {M : Option (Int32 × MS)} {r : Int32} {g' : GS} {σ' : MS} {dc ds : Nat} (h1 : X = some ((.inl r, g'), dc, ds)) (h2 : M = some (r, σ')) (h3 : Rel a o g' σ') (h4 : dc ≤ 18000) (h5 : ds ≤ 80000) (h6 : m_I σ' 0 = 0) : OpT K a o X M := ⟨_, _, _, _, _, _, h1, h2, h3, h4, h5, Or.inl ⟨rfl, h6⟩⟩
theorem OpT.ex {K : List (Nat × Int32)} {a o : Nat} {X : Option (((Int32 ⊕ (Nat × Nat)) × GS) × Nat × Nat)} {M : Option (Int32 × MS)} {r : Int32} {g' : GS} {σ' : MS} {dc ds e q : Nat} (h1 : X = some ((.inr (e, q), g'), dc, ds)) (h2 : M = some (r, σ')) (h3 : Rel a o g' σ') (h4 : dc ≤ 18000) (h5 : ds ≤ 80000) (h6 : (e, m_I σ' 0) ∈ K) : OpT K a o X M := ⟨_, _, _, _, _, _, h1, h2, h3, h4, h5, Or.inr ⟨e, q, rfl, h6⟩⟩
def wi_ (x lo hi : Int32) : Bool := decide (lo ≤ x) && decide (x ≤ hi)
theorem wi_t {x lo hi : Int32} : wi_ x lo hi = true ↔ lo.toInt ≤ x.toInt ∧ x.toInt ≤ hi.toInt := by
  unfold wi_
  rw [Bool.and_eq_true, decide_eq_true_iff, decide_eq_true_iff, i_le, i_le]
theorem X1_in_l {x lo hi : Int32} : X1_in x lo hi = some (if wi_ x lo hi = true then 1 else 0) := by
  unfold X1_in wi_
  by_cases h1 : x < lo
  · rw [if_pos h1, decide_eq_false (by rw [i_le]; rw [i_lt] at h1; omega)]
    rfl
  · rw [if_neg h1, decide_eq_true (by rw [i_le]; rw [i_lt] at h1; omega)]
    by_cases h2 : hi < x
    · rw [if_pos h2, decide_eq_false (by rw [i_le]; rw [i_lt] at h2; omega)]
      rfl
    · rw [if_neg h2, decide_eq_true (by rw [i_le]; rw [i_lt] at h2; omega)]
      rfl
theorem X4_within_l {x lo hi : Int32} : X4_within x lo hi = some (if wi_ x lo hi = true then 1 else 0) := X1_in_l
theorem X4_right1 {c : Int32} {σ : MS} (h : m_I σ 0 = 0) : X4_right 1 c σ = some (1, σ) := by
  unfold X4_right X4_right_j16
  rw [if_pos h, if_neg (by decide), if_pos h]
theorem X4_right0 {c : Int32} {σ : MS} (h : m_I σ 0 = 0) (hc : c ≠ 0) : X4_right 0 c σ = some (0, s_I σ 0 c) := by
  unfold X4_right X4_right_j16
  rw [if_pos h, if_pos rfl, if_neg (by rw [rI_sI, if_pos rfl]; exact hc)]
theorem X1_oneOf_t {x hi : Int32} {g : GS} (h : wi_ x 0 hi = true) : X1_oneOf x hi g = some ((.inl (), g), 0, 0) := by
  unfold X1_oneOf X1_found
  rw [X1_in_l, if_pos h, e_ob, if_neg (by decide), e_tcl, e_b0]
theorem X1_oneOf_f {x hi : Int32} {g : GS} (h : wi_ x 0 hi = false) : X1_oneOf x hi g = some ((.inr (1, gz g), g), 1, 6) := by
  unfold X1_oneOf X1_found
  rw [X1_in_l, h, e_ob]
  rfl
theorem X4_isWhat_t {x hi : Int32} {σ : MS} (h0 : m_I σ 0 = 0) (h : wi_ x 0 hi = true) : X4_isWhat x hi σ = some (1, σ) := by
  unfold X4_isWhat
  rw [X4_within_l, if_pos h, e_ob, X4_right1 h0, e_cb]
  rfl
theorem X4_isWhat_f {x hi : Int32} {σ : MS} (h0 : m_I σ 0 = 0) (h : wi_ x 0 hi = false) : X4_isWhat x hi σ = some (0, s_I σ 0 1) := by
  unfold X4_isWhat
  rw [X4_within_l, h, e_ob]
  show cb_ (X4_right 0 1 σ) _ = _
  rw [X4_right0 h0 (by decide), e_cb]
  rfl
theorem X1_right_t {g : GS} : X1_right 1 g = some ((.inl (), g), 0, 0) := rfl
theorem X1_right_f {g : GS} : X1_right 0 g = some ((.inr (2, gz g), g), 1, 6) := rfl
theorem X1_found_t {g : GS} : X1_found 1 g = some ((.inl (), g), 0, 0) := rfl
theorem X1_found_f {g : GS} : X1_found 0 g = some ((.inr (1, gz g), g), 1, 6) := rfl
theorem s0_0 {σ : MS} {c : Int32} : m_I (s_I σ 0 c) 0 = c := rfl
theorem s0_eq {σ : MS} {c : Int32} : MEq σ (s_I σ 0 c) := (Mf.sI (LI := [0]) (LA := []) (by decide)).eq (by decide) (by decide)
/-- a question's end -/
theorem RelP.q {a o sc v n k h x m T : Nat} {g g' : GS} {ρ ρ' : Nat → Nat} {σ σ' : MS} (hp : RelP a o sc v n k h x m T g ρ σ) (hF : Fr (fun q => q = v) g g') (hA : Ag g ρ ρ') (hM : MEq σ σ') : Rel a o g' σ' := by
  have hC := hp.1.1
  have hva : a ≠ v := by
    intro q
    have h1 := hC.1.1
    have h2 := hC.2.1.1
    rw [q, h2] at h1
    omega
  refine ⟨ρ', sc, v, n, k, h, x, m, T, hp.to hF hA (fun q _ k => ?_) (fun i => hF.R hC.1.2.2.1 hva i) (fun i _ => hF.I hC.1.2.2.1 hva i) hM⟩
  rw [k]
  exact Or.inr (Or.inl hC.2.1.2.2.1)
theorem RelP.r {a o sc v n k h x m T : Nat} {g : GS} {ρ : Nat → Nat} {σ σ' : MS} (hp : RelP a o sc v n k h x m T g ρ σ) (hM : MEq σ σ') : Rel a o g σ' := hp.q Fr.rf Ag.rf hM
theorem RelP.m {a o sc v n k h x m T : Nat} {g : GS} {ρ : Nat → Nat} {σ σ' : MS} (hp : RelP a o sc v n k h x m T g ρ σ) (hM : MEq σ σ') : RelP a o sc v n k h x m T g ρ σ' := hp.to (W := no_) Fr.rf Ag.rf (fun _ _ k => k.elim) (fun _ => rfl) (fun _ _ => rfl) hM
theorem Rel.sk {a o : Nat} {g : GS} {σ : MS} {n : Nat} (h : Rel a o g σ) : Rel a o (sk_ g n) σ := by
  obtain ⟨ρ, sc, v, n, k, h, x, m, T, hp⟩ := h
  exact hp.q Fr.sk Ag.rf MEq.rf
theorem Rel.out {a o i : Nat} {g : GS} {σ : MS} {w : Int32} (h : Rel a o g σ) : Rel a o (pI g o i w) σ := by
  obtain ⟨ρ, sc, v, n, k, h, x, m, T, hp⟩ := h
  have ho : ρ o = 50 := hp.2.2.2.2.2.2.2.2.2.2.2.2.2.1
  have ha : ρ a = 1 := hp.1.1.1.2.1
  have hoa : a ≠ o := by intro q; rw [q, ho] at ha; omega
  exact ⟨ρ, sc, v, n, k, h, x, m, T, hp.to (W := fun q => q = o) (Fr.pI rfl) Ag.rf (fun q _ k => by rw [k, ho]; exact Or.inr (Or.inr (by omega))) (fun _ => rfl) (fun j _ => by rw [I_pI, if_neg (by rintro ⟨q, -⟩; exact hoa q)]) MEq.rf⟩
/-! a take is made -/
theorem tkinit {g : GS} {ρ : Nat → Nat} {a sc v n k h u s r m : Nat} {σ : MS} (hC : CW g ρ a sc v n k h σ) (hS : StP g ρ r s m h σ) (hu : gK g u = 10 ∧ ρ u = 9 ∧ u < gz g) (hn : TnP g u σ) :
    ∃ g', X11_init u a s g = some (((), g'), 3, 1803) ∧ TW g' (nr ρ g 9) a sc v u s (gz g) (gz g + 1) (gz g + 2) r m n k h σ ∧ Fr (fun q => q = u) g g' ∧ gz g' = gz g + 3 := by
  obtain ⟨u1, u2, u3⟩ := hu
  obtain ⟨g1, e1⟩ : ∃ g1, g1 = nw_ (pR g u 7 (a + 1)) 100 601 := ⟨_, rfl⟩
  obtain ⟨g2, e2⟩ : ∃ g2, g2 = nw_ (pR g1 u 1 (gz g + 1)) 100 601 := ⟨_, rfl⟩
  obtain ⟨g3, e3⟩ : ∃ g3, g3 = nw_ (pR g2 u 2 (gz g + 1 + 1)) 100 601 := ⟨_, rfl⟩
  have z1 : gz g1 = gz g + 1 := by rw [e1]; rfl
  have z2 : gz g2 = gz g + 2 := by rw [e2, z_nw, z_pR, z1]
  have z3 : gz g3 = gz g + 3 := by rw [e3, z_nw, z_pR, z2]
  have F1 : Fr (fun q => q = u) g g1 := by rw [e1]; exact (Fr.pR (W := fun q => q = u) rfl).trans (Fr.nw (W := fun q => q = u)) (fun _ _ k => k)
  have F2 : Fr (fun q => q = u) g1 g2 := by rw [e2]; exact (Fr.pR (W := fun q => q = u) rfl).trans (Fr.nw (W := fun q => q = u)) (fun _ _ k => k)
  have F3 : Fr (fun q => q = u) g2 g3 := by rw [e3]; exact (Fr.pR (W := fun q => q = u) rfl).trans (Fr.nw (W := fun q => q = u)) (fun _ _ k => k)
  obtain ⟨g4, e4⟩ : ∃ g4, g4 = pR (pR g3 u 3 (gz g + 2 + 1)) u 0 (s + 1) := ⟨_, rfl⟩
  have F4 : Fr (fun q => q = u) g3 g4 := by rw [e4]; exact (Fr.pR (W := fun q => q = u) rfl).trans (Fr.pR (W := fun q => q = u) rfl) (fun _ _ k => k)
  have z4 : gz g4 = gz g + 3 := by rw [e4]; exact z3
  have F : Fr (fun q => q = u) g g4 := ((F1.trans F2 (fun _ _ k => k)).trans F3 (fun _ _ k => k)).trans F4 (fun _ _ k => k)
  have k1 : gK g1 u = 10 := by rw [F1.K u3, u1]
  have k2 : gK g2 u = 10 := by rw [F2.K (by omega), k1]
  have k3 : gK g3 u = 10 := by rw [F3.K (by omega), k2]
  have r4 : gR g4 u 0 = s + 1 ∧ gR g4 u 1 = gz g + 1 ∧ gR g4 u 2 = gz g + 1 + 1 ∧ gR g4 u 3 = gz g + 2 + 1 ∧ gR g4 u 7 = a + 1 := by
    have ne1 : ¬ u = gz g := by omega
    have ne2 : ¬ u = gz g + 1 := by omega
    have ne3 : ¬ u = gz g + 2 := by omega
    rw [e4, e3, e2, e1]
    simp only [R_pR, R_nw, z_pR, z_nw, ne1, ne2, ne3, if_false, true_and]
    exact ⟨rfl, rfl, rfl, rfl, rfl⟩
  have a1 : gK g4 (gz g) = 100 ∧ gN g4 (gz g) = 601 := by
    rw [F4.K (by omega), F4.N (by omega), F3.K (by omega), F3.N (by omega), F2.K (by omega), F2.N (by omega), e1, K_nw, N_nw, if_pos (by rw [z_pR]), if_pos (by rw [z_pR])]
    exact ⟨rfl, rfl⟩
  have a2 : gK g4 (gz g + 1) = 100 ∧ gN g4 (gz g + 1) = 601 := by
    rw [F4.K (by omega), F4.N (by omega), F3.K (by omega), F3.N (by omega), e2, K_nw, N_nw, if_pos (by rw [z_pR, z1]), if_pos (by rw [z_pR, z1])]
    exact ⟨rfl, rfl⟩
  have a3 : gK g4 (gz g + 2) = 100 ∧ gN g4 (gz g + 2) = 601 := by
    rw [F4.K (by omega), F4.N (by omega), e3, K_nw, N_nw, if_pos (by rw [z_pR, z2]), if_pos (by rw [z_pR, z2])]
    exact ⟨rfl, rfl⟩
  have hC0 := hC
  obtain ⟨⟨c1, c2, c3, c4, c5⟩, -⟩ := hC0
  have hau : ¬ a = u := by intro q; rw [q, u1] at c1; omega
  obtain ⟨⟨r6, r9⟩, hSt, hm, hR⟩ := hS
  have eI : ∀ i, gI g4 u i = gI g u i := by
    intro i
    have ne1 : ¬ u = gz g := by omega
    have ne2 : ¬ u = gz g + 1 := by omega
    have ne3 : ¬ u = gz g + 2 := by omega
    rw [e4, e3, e2, e1]
    simp only [I_pR, I_nw, z_pR, z_nw, ne1, ne2, ne3, if_false]
  refine ⟨g4, ?_, ⟨hC.to F nr_ag (fun q _ k k' => by rw [k', u2] at k; omega) ⟨F.R c3 hau 0, F.R c3 hau 2⟩ (LI := []) (LA := []) Mf.rf (by decide) (by decide), ⟨⟨by rw [F.K u3, u1], by rw [nr_lt u3, u2], by omega⟩, r4, ⟨⟨a1.1, a1.2, nr_ge (Nat.le_refl _), by omega⟩, ⟨a2.1, a2.2, nr_ge (by omega), by omega⟩, ⟨a3.1, a3.2, nr_ge (by omega), by omega⟩⟩, by omega, by omega, by omega⟩, ?_, ⟨r6, r9⟩, hSt.to F nr_ag (fun q _ k k' => by rw [k', u2] at k; omega), hm, hR⟩, F, z4⟩
  · unfold X11_init
    rw [e_wk u1, e_na (by decide), e_al]
    rw [show (601 : Int32).toNatClampNeg = 601 from rfl, z_pR, ← e1, e_wk k1, e_na (by decide), e_al]
    rw [z_pR, z1, ← e2, e_wk k2, e_na (by decide), e_al]
    rw [z_pR, z2, ← e3, e_wk k3, ← e4]
    rfl
  · unfold TnP
    rw [eI, eI, eI]
    exact hn
theorem TnP0 {g : GS} {u : Nat} {σ : MS} (h : ZeP σ) (h4 : gI g u 4 = 0) (h5 : gI g u 5 = 0) (h6 : gI g u 6 = 0) : TnP g u σ := by
  obtain ⟨z1, z2, z3⟩ := h
  unfold TnP
  rw [h4, h5, h6, z1, z2, z3]
  decide
/-- a new take over the settings in force -/
theorem newtake {a o sc v n k h x m T : Nat} {g : GS} {ρ : Nat → Nat} {σ : MS} (hp : RelP a o sc v n k h x m T g ρ σ) :
    ∃ g', X11_init (gz g) a x (nw_ g 10 8) = some (((), g'), 3, 1803) ∧ TW g' (nr ρ g 9) a sc v (gz g) x (gz g + 1) (gz g + 2) (gz g + 3) 2 m n k h σ ∧ Fr no_ g g' ∧ gz g' = gz g + 4 := by
  obtain ⟨⟨hC, -, -⟩, ⟨n1, n2, n3, n4⟩, hZ, -⟩ := hp
  have F : Fr no_ g (nw_ g 10 8) := Fr.nw
  have hA : Ag g ρ (nr ρ g 9) := nr_ag
  have hC' : CW (nw_ g 10 8) (nr ρ g 9) a sc v n k h σ := by
    have ha := hC.1.2.2.1
    exact hC.to F hA (fun _ _ _ k => k) ⟨F.R ha (fun k => k) 0, F.R ha (fun k => k) 2⟩ (LI := []) (LA := []) Mf.rf (by decide) (by decide)
  obtain ⟨g', a1, a2, a3, a4⟩ := tkinit (u := gz g) hC' ⟨⟨by omega, by omega⟩, n2.to F hA (fun _ _ _ k => k), n3, n4⟩ ⟨by rw [K_nw, if_pos rfl], nr_ge (Nat.le_refl _), by rw [z_nw]; omega⟩ (TnP0 hZ (by rw [I_nw, if_pos rfl]) (by rw [I_nw, if_pos rfl]) (by rw [I_nw, if_pos rfl]))
  rw [nr_nr (by rw [z_nw]; omega), z_nw] at a2
  exact ⟨g', a1, a2, F.trans a3 (fun q hq k => by omega), by rw [a4, z_nw]⟩
/-- take() -/
theorem take_l {a o sc v n k h x m T : Nat} {g : GS} {ρ : Nat → Nat} {σ : MS} (hp : RelP a o sc v n k h x m T g ρ σ) :
    ∃ g' σ', X1_take a g = some ((gz g, g'), 4, 1811) ∧ X4_goesThrough σ = some σ' ∧ AR g' (nr ρ g 9) a sc v (gz g) x (gz g + 1) (gz g + 2) (gz g + 3) 2 m n k h T σ' ∧ Fr (fun q => q = v) g g' ∧ gz g < gz g' ∧ Mf [] [57, 58, 61, 62, 63] σ σ' := by
  obtain ⟨g1, a1, a2, a3, a4⟩ := newtake hp
  have hR1 := hp.2.1.1
  have hC := hp.1.1
  have ha3 := hC.1.2.2.1
  obtain ⟨g2, σ2, b1, b2, b3, b4, b5, b6⟩ := run_l a2
  obtain ⟨-, hs1, hs2⟩ := hp.1
  have hT : (sm_ (m_A σ 9) n).toInt.toNat + 1 = T + 1 := by rw [hs1, i_n (by omega)]; omega
  rw [hT] at b6
  have hav : ¬ a = gz g := by omega
  have hu10 := a2.2.1.1.1
  refine ⟨g2, σ2, ?_, b2, ⟨a2.to b3 b5, b6, by rw [b5.Af (by decide)]; exact hs1, hs2⟩, ?_, by omega, b5⟩
  · unfold X1_take
    rw [e_al, e_wk (by rw [K_nw, if_neg hav]; exact hC.1.1), R_nw, if_neg hav, hR1, e_nn, a1, e_ca, e_wk hu10, b1, e_cb]
    rfl
  · refine (a3.mono (W' := fun q => q = v) (fun _ _ k => k.elim)).trans b3 (fun q hq k => ?_)
    rcases k with k | k | k | k
    · exact k
    · omega
    · omega
    · omega
end
section
/-! LAWS: turn, inches, tenth, all, count, mark, kept, fault (own work) -/
set_option maxRecDepth 100000
theorem nn01 : ¬ (1 : Int32) = 0 := by decide
theorem op_turn {a o : Nat} {g : GS} {σ : MS} (hr : Rel a o g σ) (x : Int32) : OpT [(2, 1)] a o (X1_turn a x g) (X4_turn x σ) := by
  obtain ⟨ρ, sc, v, n, k, h, y, m, T, hp⟩ := hr
  have hp0 := hp.m (s0_eq (c := 0))
  unfold X1_turn X4_turn
  rw [X1_in_l, X4_within_l, e_ob, e_ob]
  cases hw : wi_ x 12 480 with
  | false =>
    refine OpT.ex (e := 2) (q := gz g) (r := 0) (g' := g) (σ' := s_I (s_I σ 0 0) 0 1) (dc := 1) (ds := 6) rfl ?_ (hp0.r s0_eq) (by omega) (by omega) (List.mem_cons_self)
    show cb_ (X4_right 0 1 (s_I σ 0 0)) _ = _
    rw [X4_right0 s0_0 (by decide), e_cb, if_pos rfl]
  | true =>
    obtain ⟨h1, h2⟩ := wi_t.mp hw
    rw [k_12] at h1
    rw [k_480] at h2
    obtain ⟨r, g', σ', b1, b2, b3, b4, b5, b6⟩ := turn_l hp0.1.1 ⟨h1, h2⟩
    refine OpT.ok (r := r) (g' := g') (σ' := σ') (dc := 0) (ds := 0) ?_ ?_ (hp0.q b3 Ag.rf (b5.eq (by decide) (by decide))) (by omega) (by omega) (by rw [b5.I (by decide)]; rfl)
    · show tc_ (X1_right 1 g) _ _ = _
      rw [X1_right_t, e_tcl, e_wk hp.1.1.1.1, b1, e_cb, e_b0]
    · show cb_ (X4_right 1 1 (s_I σ 0 0)) _ = _
      rw [X4_right1 s0_0, e_cb, if_neg nn01, b2, e_cb]
theorem RelP.sc {a o sc v n k h x m T : Nat} {g : GS} {ρ : Nat → Nat} {σ : MS} (hp : RelP a o sc v n k h x m T g ρ σ) : gK g a = 1 ∧ gR g a 0 = sc + 1 ∧ gK g sc = 2 ∧ gI g sc 6 = nI T ∧ LaP σ n T := by
  obtain ⟨⟨⟨⟨a1, a2, a3, a4, a5⟩, -, -, ⟨s1, s2, s3, s4, s5⟩, ⟨⟨p1, p2⟩, -⟩, -⟩, h2, h3⟩, -⟩ := hp
  exact ⟨a1, a4, s1, by rw [s5, h2], p1, p2, h2, h3⟩
theorem X1_aTenth_t {a o sc v n k h x m T : Nat} {g : GS} {ρ : Nat → Nat} {σ : MS} (hp : RelP a o sc v n k h x m T g ρ σ) {t : Int32} (ht : wi_ t 0 (nI T) = true) : X1_aTenth a t g = some ((.inl (), g), 0, 0) := by
  obtain ⟨a1, a2, a3, a4, -⟩ := hp.sc
  unfold X1_aTenth
  rw [e_wk a1, a2, e_nn, e_wk a3, a4, X1_in_l, if_pos ht, e_ob, X1_found_t, e_tcl, e_b0]
theorem X1_aTenth_f {a o sc v n k h x m T : Nat} {g : GS} {ρ : Nat → Nat} {σ : MS} (hp : RelP a o sc v n k h x m T g ρ σ) {t : Int32} (ht : wi_ t 0 (nI T) = false) : X1_aTenth a t g = some ((.inr (1, gz g), g), 1, 6) := by
  obtain ⟨a1, a2, a3, a4, -⟩ := hp.sc
  unfold X1_aTenth
  rw [e_wk a1, a2, e_nn, e_wk a3, a4, X1_in_l, ht, e_ob]
  rfl
theorem X4_isTenth_t {σ : MS} {n T : Nat} (h : LaP σ n T) (h0 : m_I σ 0 = 0) {t : Int32} (ht : wi_ t 0 (nI T) = true) : X4_isTenth t σ = some (1, σ) := by
  obtain ⟨h1, h2⟩ := wi_t.mp ht
  rw [k_0] at h1
  unfold X4_isTenth X4_isTenth_j18
  rw [if_neg (by rw [i_lt, k_0]; omega), h.l, e_ob, if_neg (by rw [i_lt]; omega), X4_right1 h0, e_cb]
  rfl
theorem X4_isTenth_f {σ : MS} {n T : Nat} (h : LaP σ n T) (h0 : m_I σ 0 = 0) {t : Int32} (ht : wi_ t 0 (nI T) = false) : X4_isTenth t σ = some (0, s_I σ 0 1) := by
  have hn : ¬ (0 ≤ t.toInt ∧ t.toInt ≤ (nI T).toInt) := fun q => by
    have := (wi_t (x := t) (lo := 0) (hi := nI T)).mpr ⟨by rw [k_0]; exact q.1, q.2⟩
    rw [ht] at this
    cases this
  have key : X4_isTenth_j17 σ = some (0, s_I σ 0 1) := by
    unfold X4_isTenth_j17 X4_isTenth_j18
    rw [X4_right0 h0 (by decide), e_cb]
    rfl
  unfold X4_isTenth
  by_cases h1 : t < 0
  · rw [if_pos h1, key]
  · rw [if_neg h1, h.l, e_ob, if_pos, key]
    rw [i_lt, k_0] at h1
    rw [i_lt]
    omega
theorem ten_n {t : Int32} {T : Nat} (hT : T ≤ 600) (ht : wi_ t 0 (nI T) = true) : ∃ s, t = nI s ∧ s ≤ T := by
  obtain ⟨h1, h2⟩ := wi_t.mp ht
  rw [k_0] at h1
  rw [i_n (by omega)] at h2
  obtain ⟨s, s1, s2, s3⟩ := i_nat h1
  exact ⟨s, s1, by omega⟩
theorem op_inches {a o : Nat} {g : GS} {σ : MS} (hr : Rel a o g σ) (t who : Int32) : OpT [(1, 1)] a o (X1_inches a t who g) (X4_inches t who σ) := by
  obtain ⟨ρ, sc, v, n, k, h, y, m, T, hp⟩ := hr
  have hp0 := hp.m (s0_eq (c := 0))
  obtain ⟨a1, a2, a3, a4, hla⟩ := hp0.sc
  unfold X1_inches X4_inches
  rw [e_wk a1]
  cases ht : wi_ t 0 (nI T) with
  | false =>
    refine OpT.ex (e := 1) (q := gz g) (r := 0) (g' := g) (σ' := s_I (s_I σ 0 0) 0 1) (dc := 1) (ds := 6) ?_ ?_ (hp0.r s0_eq) (by omega) (by omega) (List.mem_cons_self)
    · rw [X1_aTenth_f hp ht, e_tcr, e_b0]
    · rw [X4_isTenth_f hla s0_0 ht, e_cb, if_pos rfl]
  | true =>
    rw [X1_aTenth_t hp ht, e_tcl, bp_0, X4_isTenth_t hla s0_0 ht, e_cb, if_neg nn01]
    cases hw : wi_ who 0 1 with
    | false =>
      refine OpT.ex (e := 1) (q := gz g) (r := 0) (g' := g) (σ' := s_I (s_I σ 0 0) 0 1) (dc := 1) (ds := 6) ?_ ?_ (hp0.r s0_eq) (by omega) (by omega) (List.mem_cons_self)
      · rw [X1_oneOf_f hw, e_tcr, e_b0]
      · rw [X4_isWhat_f s0_0 hw, e_cb, if_pos rfl]
    | true =>
      obtain ⟨w1, w2⟩ := wi_t.mp hw
      rw [k_0] at w1
      rw [k_1] at w2
      rw [X1_oneOf_t hw, e_tcl, bp_0, X4_isWhat_t s0_0 hw, e_cb, if_neg nn01]
      obtain ⟨g', b1, b2, b3, b4⟩ := newtake hp0
      obtain ⟨s, rfl, hs⟩ := ten_n hla.2.2.2 ht
      have hT6 := hla.2.2.2
      have hC := hp0.1.1
      have hR1 := hp0.2.1.1
      have hav : ¬ a = gz g := by have := hC.1.2.2.1; omega
      obtain ⟨⟨⟨A1, A2, A3, A4, A5⟩, -, -, ⟨S1, S2, S3, S4, S5⟩, ⟨⟨P1, P2⟩, -⟩, ⟨Q1, -, -⟩, -, w1', -, w3, -⟩, ⟨⟨U1, -, -⟩, ⟨F0, -, -, -, F7⟩, -, -⟩, ⟨⟨N1, N1'⟩, -⟩, -, hSt, -, hRo⟩ := b2
      have hwho : who = 1 ∨ who = 0 := by
        rw [i_eq, i_eq, k_0, k_1]
        omega
      have hX : ∀ q : Int32, X11_inches (gz g) (nI s) q g' = some (ic_ (m_A (s_I σ 0 0) 8) (m_A (s_I σ 0 0) 9) n (m_I (s_I σ 0 0) 1) (m_A (s_I σ 0 0) 53 4) (m_I (s_I σ 0 0) 59) (nI s) q) := fun q => by
        rw [X11_inches_l U1 A1 S1 hSt.1 F7 A4 F0 Q1 P2 w1' (by rw [N1]; omega) (by rw [i_n (by omega)]; omega), S4, N1, hSt.2.2.2.1.2.2.2.2.2]
      have hM : X4_inchesOf (nI s) who (s_I σ 0 0) = some (ic_ (m_A (s_I σ 0 0) 8) (m_A (s_I σ 0 0) 9) n (m_I (s_I σ 0 0) 1) (m_A (s_I σ 0 0) 53 4) (m_I (s_I σ 0 0) 59) (nI s) who) := X4_inchesOf_l P1 P2 w1' w3 (by omega) (by rw [i_n (by omega)]; omega)
      refine OpT.ok (g' := g') (σ' := s_I σ 0 0) (dc := 4) (ds := 1811) ?_ (by rw [hM, e_ob]) (hp0.q (b3.mono (fun _ _ k => k.elim)) (nr_ag (r := 9)) MEq.rf) (by omega) (by omega) rfl
      rw [e_al, e_wk (by rw [K_nw, if_neg hav]; exact a1), R_nw, if_neg hav, hR1, e_nn, b1, e_ca]
      rcases hwho with rfl | rfl
      · rw [if_pos rfl]
        unfold X1_inches_j33
        rw [e_wk U1, hX, e_ob]
        rfl
      · rw [if_neg (by decide)]
        unfold X1_inches_j33
        rw [e_wk U1, hX, e_ob]
        rfl
theorem op_tenth {a o : Nat} {g : GS} {σ : MS} (hr : Rel a o g σ) (t what : Int32) : OpT [(1, 1)] a o (X1_tenth a t what g) (X4_tenth t what σ) := by
  obtain ⟨ρ, sc, v, n, k, h, y, m, T, hp⟩ := hr
  have hp0 := hp.m (s0_eq (c := 0))
  obtain ⟨a1, a2, a3, a4, hla⟩ := hp0.sc
  unfold X1_tenth X4_tenth
  rw [e_wk a1]
  cases ht : wi_ t 0 (nI T) with
  | false =>
    refine OpT.ex (e := 1) (q := gz g) (r := 0) (g' := g) (σ' := s_I (s_I σ 0 0) 0 1) (dc := 1) (ds := 6) ?_ ?_ (hp0.r s0_eq) (by omega) (by omega) (List.mem_cons_self)
    · rw [X1_aTenth_f hp ht, e_tcr, e_b0]
    · rw [X4_isTenth_f hla s0_0 ht, e_cb, if_pos rfl]
  | true =>
    rw [X1_aTenth_t hp ht, e_tcl, bp_0, X4_isTenth_t hla s0_0 ht, e_cb, if_neg nn01]
    cases hw : wi_ what 0 5 with
    | false =>
      refine OpT.ex (e := 1) (q := gz g) (r := 0) (g' := g) (σ' := s_I (s_I σ 0 0) 0 1) (dc := 1) (ds := 6) ?_ ?_ (hp0.r s0_eq) (by omega) (by omega) (List.mem_cons_self)
      · rw [X1_oneOf_f hw, e_tcr, e_b0]
      · rw [X4_isWhat_f s0_0 hw, e_cb, if_pos rfl]
    | true =>
      rw [X1_oneOf_t hw, e_tcl, bp_0, X4_isWhat_t s0_0 hw, e_cb, if_neg nn01]
      obtain ⟨s, rfl, hs⟩ := ten_n hla.2.2.2 ht
      have hT6 := hla.2.2.2
      obtain ⟨g', σ', b1, b2, b3, b4, b5, b6⟩ := take_l hp0
      have hme : MEq (s_I σ 0 0) σ' := b6.eq (by decide) (by decide)
      have hth : m_I σ' 0 = 0 := by rw [b6.I (by decide)]; rfl
      have hrel := hp0.q b4 (nr_ag (r := 9)) hme
      have hof := b3.of
      have hx := b3.x
      obtain ⟨⟨-, ⟨⟨U1, -, -⟩, ⟨F0, F1, F2, F3, F7⟩, ⟨⟨c1, c2, c3, c4⟩, ⟨d1, d2, d3, d4⟩, ⟨o1, o2, o3, o4⟩⟩, -⟩, -⟩, hAr, -⟩ := id b3
      have hA := hAr s (by omega)
      rw [b2, e_ob]
      by_cases w0 : what = 0
      · subst w0
        obtain ⟨⟨A1, A2, A3, A4, A5⟩, -, -, ⟨S1, S2, S3, S4, S5⟩, ⟨-, ⟨P3, P4⟩, -⟩, ⟨Q1, Q2, -⟩, -, -, v2, -⟩ := hp0.1.1
        have hwy := wy_01 (C := m_A (s_I σ 0 0) 10) (t := nI s) (s := 0) k (fun i hi => (v2 i hi).2)
        have hM : X4_whoseIn (nI s) σ' = some (wy_ (m_A (s_I σ 0 0) 10) (m_A (s_I σ 0 0) 11) (nI s) 0 k) := by
          unfold X4_whoseIn
          rw [X4_whoseBy_l (by rw [b6.I (by decide)]; exact P3) P4, e_ob, b6.Af (j := 10) (by decide), b6.Af (j := 11) (by decide)]
        refine OpT.ok (r := wy_ (m_A (s_I σ 0 0) 10) (m_A (s_I σ 0 0) 11) (nI s) 0 k) (g' := g) (σ' := σ') (dc := 0) (ds := 0) ?_ (by rw [if_pos rfl, hM, e_ob]) (hp.r (s0_eq.trans hme)) (by omega) (by omega) hth
        rw [if_pos rfl, e_wk A1, A4, e_nn, e_wk S1, X2_isHis_l S1 Q2 P4 v2, e_ob]
        rcases hwy with q | q <;> rw [q] <;> rfl
      · rw [if_neg w0, if_neg w0, e_wk a1, b1, e_ca]
        have s1 : s < 601 := by omega
        by_cases w1 : what = 1
        · rw [if_pos w1, if_pos w1, e_wk U1, F1, e_nn, e_rk (by rw [c1]), e_inN (by rw [c2]; exact s1) (by rw [c2]; omega), e_inN s1 (by omega), nI_clamp (by omega), hA.1.1]
          exact OpT.ok e_b0 rfl hrel (by omega) (by omega) hth
        · rw [if_neg w1, if_neg w1]
          by_cases w2 : what = 2
          · rw [if_pos w2, if_pos w2, e_wk U1, F2, e_nn, e_rk (by rw [d1]), e_inN (by rw [d2]; exact s1) (by rw [d2]; omega), e_inN s1 (by omega), nI_clamp (by omega), hA.2.1.1]
            exact OpT.ok e_b0 rfl hrel (by omega) (by omega) hth
          · rw [if_neg w2, if_neg w2]
            by_cases w3 : what = 3
            · rw [if_pos w3, if_pos w3, e_wk U1, F3, e_nn, e_rk (by rw [o1]), e_inN (by rw [o2]; exact s1) (by rw [o2]; omega), e_inN s1 (by omega), nI_clamp (by omega), hA.2.2.1]
              exact OpT.ok e_b0 rfl hrel (by omega) (by omega) hth
            · rw [if_neg w3, if_neg w3]
              by_cases w4 : what = 4
              · rw [if_pos w4, if_pos w4, e_wk U1, X11_isSharp2_l hof hx.1 hx.2.1 hs, e_ob, X4_isSharp_l (by omega), e_ob, hx.2.2.1]
                rcases sh_01 (hole := m_A σ' 53 0) (v := m_A σ' 63 s) with q | q
                · rw [q, if_pos rfl, if_pos rfl]
                  exact OpT.ok e_b0 rfl hrel (by omega) (by omega) hth
                · rw [q, if_neg nn01, if_neg nn01]
                  exact OpT.ok e_b0 rfl hrel (by omega) (by omega) hth
              · rw [if_neg w4, if_neg w4, e_wk U1]
                obtain ⟨w, g2, σ2, f1, f2, f3, f4, f5, f6⟩ := shows_l b3 hs
                have hrel2 := hp0.q (b4.trans f3 (fun _ _ k => k)) (nr_ag (r := 9)) (hme.trans (f5.eq (by decide) (by decide)))
                have hth2 : m_I σ2 0 = 0 := by rw [f5.I (by decide)]; exact hth
                rw [f1, e_cb, f2, e_cb]
                rcases f6 with q | q
                · rw [q, if_pos rfl, if_pos rfl]
                  exact OpT.ok e_b0 rfl hrel2 (by omega) (by omega) hth2
                · rw [q, if_neg nn01, if_neg nn01]
                  exact OpT.ok e_b0 rfl hrel2 (by omega) (by omega) hth2
theorem op_all {a o : Nat} {g : GS} {σ : MS} (hr : Rel a o g σ) (what : Int32) : OpT [(1, 1)] a o (X1_all a what g) (X4_all what σ) := by
  obtain ⟨ρ, sc, v, n, k, h, y, m, T, hp⟩ := hr
  have hp0 := hp.m (s0_eq (c := 0))
  obtain ⟨a1, a2, a3, a4, hla⟩ := hp0.sc
  unfold X1_all X4_all
  cases hw : wi_ what 0 6 with
  | false =>
    refine OpT.ex (e := 1) (q := gz g) (r := 0) (g' := g) (σ' := s_I (s_I σ 0 0) 0 1) (dc := 1) (ds := 6) ?_ ?_ (hp0.r s0_eq) (by omega) (by omega) (List.mem_cons_self)
    · rw [X1_oneOf_f hw, e_tcr, e_b0]
    · rw [X4_isWhat_f s0_0 hw, e_cb, if_pos rfl]
  | true =>
    rw [X1_oneOf_t hw, e_tcl, bp_0, X4_isWhat_t s0_0 hw, e_cb, if_neg nn01]
    have hT6 := hla.2.2.2
    obtain ⟨g', σ', b1, b2, b3, b4, b5, b6⟩ := take_l hp0
    have hme : MEq (s_I σ 0 0) σ' := b6.eq (by decide) (by decide)
    have hth : m_I σ' 0 = 0 := by rw [b6.I (by decide)]; rfl
    have hrel := hp0.q b4 (nr_ag (r := 9)) hme
    have hof := b3.of
    have hx := b3.x
    have hla' := b3.la
    obtain ⟨⟨-, ⟨⟨U1, -, -⟩, ⟨F0, F1, F2, F3, F7⟩, ⟨⟨c1, c2, c3, c4⟩, ⟨d1, d2, d3, d4⟩, ⟨o1, o2, o3, o4⟩⟩, -⟩, -⟩, hAr, -⟩ := id b3
    rw [b2, e_ob, e_wk a1, b1, e_ca]
    by_cases w0 : what = 0
    · rw [if_pos w0, if_pos w0, e_wk U1, X11_sharp_l hof hx.1 hx.2.1, e_ob, X4_sharpMany_l hla', e_ob, hx.2.2.1]
      exact OpT.ok e_b0 rfl hrel (by omega) (by omega) hth
    · rw [if_neg w0, if_neg w0]
      by_cases w1 : what = 1
      · rw [if_pos w1, if_pos w1, e_wk U1, X11_worst_l hof, e_ob, X4_mostOff_l hla', e_ob]
        exact OpT.ok e_b0 rfl hrel (by omega) (by omega) hth
      · rw [if_neg w1, if_neg w1]
        by_cases w2 : what = 2
        · rw [if_pos w2, if_pos w2, e_wk U1, X11_longestSoft_l hof hx.1 hx.2.1, e_ob, X4_longestSoft_l hla', e_ob, hx.2.2.1]
          exact OpT.ok e_b0 rfl hrel (by omega) (by omega) hth
        · rw [if_neg w2, if_neg w2]
          by_cases w3 : what = 3
          · obtain ⟨r, r1, r2⟩ := soft_l hof hx.1 hx.2.1 hx.2.2.1 hla'
            rw [if_pos w3, if_pos w3, e_wk U1, r1, e_ob, r2, e_ob]
            exact OpT.ok e_b0 rfl hrel (by omega) (by omega) hth
          · rw [if_neg w3, if_neg w3]
            by_cases w4 : what = 4
            · rw [if_pos w4, if_pos w4, e_wk U1, X11_swings_l hof (fun t ht => (hAr t (by omega)).2.2.2), e_ob, X4_swings_l hla', e_ob]
              exact OpT.ok e_b0 rfl hrel (by omega) (by omega) hth
            · rw [if_neg w4, if_neg w4]
              by_cases w5 : what = 5
              · subst w5
                obtain ⟨w, g2, σ2, f1, f2, f3, f4, f5⟩ := shown_l b3
                rw [if_pos rfl, e_wk U1, f1, e_cb, f2, e_ob]
                exact OpT.ok e_b0 rfl (hp0.q (b4.trans f3 (fun _ _ k => k)) (nr_ag (r := 9)) (hme.trans (f5.eq (by decide) (by decide)))) (by omega) (by omega) (by rw [f5.I (by decide)]; exact hth)
              · rw [if_neg w5, e_wk U1, X11_turned_l hof ⟨F2, d1, d2, fun t ht => (hAr t (by omega)).2.1.1⟩, e_ob, X4_all6_l hla' w5 (fun t ht => (hAr t (by omega)).2.1.2), e_ob]
                exact OpT.ok e_b0 rfl hrel (by omega) (by omega) hth
end
section
/-! LAWS: count, mark, kept, fault, holes, shots, light (own work) -/
set_option maxRecDepth 100000
theorem op_fault {a o : Nat} {g : GS} {σ : MS} (hr : Rel a o g σ) : ∃ r σ', X1_fault a g = some r ∧ X4_fault σ = some (r, σ') ∧ Rel a o g σ' := by
  obtain ⟨ρ, sc, v, n, k, h, y, m, T, hp⟩ := hr
  refine ⟨m_I σ 17, s_I σ 0 0, ?_, rfl, hp.r s0_eq⟩
  unfold X1_fault
  rw [e_wk hp.1.1.1.1, hp.2.2.2.1.2.2]
theorem op_count {a o : Nat} {g : GS} {σ : MS} (hr : Rel a o g σ) (x : Int32) : OpT [(1, 1)] a o (X1_count a x g) (X4_count x σ) := by
  obtain ⟨ρ, sc, v, n, k, h, y, m, T, hp⟩ := hr
  have hp0 := hp.m (s0_eq (c := 0))
  have hrel : Rel a o g (s_I σ 0 0) := hp0.r MEq.rf
  have hok : ∀ {w : Int32} {X : Option (((Int32 ⊕ (Nat × Nat)) × GS) × Nat × Nat)} {M : Option (Int32 × MS)}, X = some ((.inl w, g), 0, 0) → M = some (w, s_I σ 0 0) → OpT [(1, 1)] a o X M := fun h1 h2 => OpT.ok h1 h2 hrel (by omega) (by omega) rfl
  obtain ⟨⟨⟨⟨a1, a2, a3, a4, a5⟩, -, -, ⟨s1, s2, s3, s4, s5⟩, ⟨⟨p1, p2⟩, ⟨p3, p4⟩, p5, p6⟩, ⟨⟨l0, xs0, q01, q02, q03, -⟩, ⟨l1, xs1, q11, q12, q13, -⟩, ⟨l2, xs2, q21, q22, q23, -⟩⟩, -⟩, hsm, hT⟩, ⟨n1, ⟨c1, c2, c3, ⟨d0, d1, d2, d3, d4, d5⟩, lm, ys, e1, e2, e3, e4⟩, ⟨n3, n4⟩, n5⟩, -, ⟨-, ⟨tp, t1, t2, t3⟩, t4⟩, ⟨rf, r1, r2, r3, r4, r5, r6⟩, ⟨la, xa, f1, f2, f3, f4, -⟩, ⟨nf, ⟨lf, xf, g1, g2, g3, -⟩, g5, g6⟩, ⟨lb, xb, b1, b2, b3, b4, -⟩, -⟩ := hp0
  unfold X1_count X4_count
  rw [X4_within_l, e_ob]
  cases hw : wi_ x 0 17 with
  | false =>
    have hn : ¬ (0 ≤ x.toInt ∧ x.toInt ≤ 17) := fun q => by
      have := (wi_t (x := x) (lo := 0) (hi := 17)).mpr q
      rw [hw] at this
      cases this
    have nx : ∀ c : Int32, 0 ≤ c.toInt → c.toInt ≤ 17 → ¬ x = c := fun c h1 h2 q => hn (by rw [q]; exact ⟨h1, h2⟩)
    have hw2 : wi_ x 15 17 = false := by
      cases hq : wi_ x 15 17 with
      | false => rfl
      | true =>
        obtain ⟨h1, h2⟩ := wi_t.mp hq
        exact absurd ⟨by have : ((15 : Int32)).toInt = 15 := by decide
                         omega, h2⟩ hn
    refine OpT.ex (e := 1) (q := gz g) (r := 0) (g' := g) (σ' := s_I (s_I σ 0 0) 0 1) (dc := 1) (ds := 6) ?_ ?_ (hp.r (s0_eq.trans s0_eq)) (by omega) (by omega) (List.mem_cons_self)
    · rw [if_neg (nx 0 (by decide) (by decide)), if_neg (nx 1 (by decide) (by decide)), if_neg (nx 2 (by decide) (by decide)), if_neg (nx 3 (by decide) (by decide)), if_neg (nx 4 (by decide) (by decide)), if_neg (nx 5 (by decide) (by decide)), if_neg (nx 6 (by decide) (by decide)), if_neg (nx 7 (by decide) (by decide)), if_neg (nx 8 (by decide) (by decide)), if_neg (nx 9 (by decide) (by decide)), if_neg (nx 10 (by decide) (by decide)), if_neg (nx 11 (by decide) (by decide)), if_neg (nx 12 (by decide) (by decide)), if_neg (nx 13 (by decide) (by decide)), if_neg (nx 14 (by decide) (by decide)), X1_in_l, hw2, e_ob]
      rfl
    · show cb_ (X4_right 0 1 (s_I σ 0 0)) _ = _
      rw [X4_right0 s0_0 (by decide), e_cb, if_pos rfl]
  | true =>
    rw [if_pos rfl, X4_right1 s0_0, e_cb, if_neg nn01]
    by_cases h0 : x = 0
    · rw [if_pos h0, if_pos h0, e_wk a1, a4, e_nn, e_wk s1, s5, X4_last_l p1 p2, e_ob]; exact hok rfl rfl
    rw [if_neg h0, if_neg h0]
    by_cases h1 : x = 1
    · rw [if_pos h1, if_pos h1, e_wk a1, a4, e_nn, e_wk s1, q01, e_nn, e_wk q02.K, J2_size_l q02, e_ob, q03, p1]; exact hok rfl rfl
    rw [if_neg h1, if_neg h1]
    by_cases h2 : x = 2
    · rw [if_pos h2, if_pos h2, e_wk a1, a4, e_nn, e_wk s1, q11, e_nn, e_wk q12.K, J2_size_l q12, e_ob, q13, p3]; exact hok rfl rfl
    rw [if_neg h2, if_neg h2]
    by_cases h3 : x = 3
    · rw [if_pos h3, if_pos h3, e_wk a1, n1, e_nn, e_wk c1, e1, e_nn, e_wk e2.K, J2_size_l e2, e_ob, e3, n3]; exact hok rfl rfl
    rw [if_neg h3, if_neg h3]
    by_cases h4 : x = 4
    · rw [if_pos h4, if_pos h4, e_wk a1, a4, e_nn, e_wk s1, q21, e_nn, e_wk q22.K, J2_size_l q22, e_ob, q23, p5]; exact hok rfl rfl
    rw [if_neg h4, if_neg h4]
    by_cases h5 : x = 5
    · rw [if_pos h5, if_pos h5, e_wk a1, n1, e_nn, e_wk c1, d4, e_i5 (by omega) (by omega), cl_5]; exact hok rfl rfl
    rw [if_neg h5, if_neg h5]
    by_cases h6 : x = 6
    · rw [if_pos h6, if_pos h6, e_wk a1, n1, e_nn, e_wk c1, d0, e_i0 (by omega) (by omega), cl_0]; exact hok rfl rfl
    rw [if_neg h6, if_neg h6]
    by_cases h7 : x = 7
    · rw [if_pos h7, if_pos h7, e_wk a1, n1, e_nn, e_wk c1, d1, e_i1 (by omega) (by omega), cl_1]; exact hok rfl rfl
    rw [if_neg h7, if_neg h7]
    by_cases h8 : x = 8
    · rw [if_pos h8, if_pos h8, e_wk a1, n1, e_nn, e_wk c1, d2, e_i2 (by omega) (by omega), cl_2]; exact hok rfl rfl
    rw [if_neg h8, if_neg h8]
    by_cases h9 : x = 9
    · rw [if_pos h9, if_pos h9, e_wk a1, n1, e_nn, e_wk c1, d3, e_i3 (by omega) (by omega), cl_3]; exact hok rfl rfl
    rw [if_neg h9, if_neg h9]
    by_cases h10 : x = 10
    · rw [if_pos h10, if_pos h10, e_wk a1, n1, e_nn, e_wk c1, d5, e_i4 (by omega) (by omega), cl_4]; exact hok rfl rfl
    rw [if_neg h10, if_neg h10]
    by_cases h11 : x = 11
    · rw [if_pos h11, if_pos h11, e_wk a1, f1, e_nn, e_wk f2.K, J2_size_l f2, e_ob, f3]; exact hok rfl rfl
    rw [if_neg h11, if_neg h11]
    by_cases h12 : x = 12
    · rw [if_pos h12, if_pos h12, e_wk a1, g1, e_nn, e_wk g2.K, J2_size_l g2, e_ob, g3, g5]; exact hok rfl rfl
    rw [if_neg h12, if_neg h12]
    by_cases h13 : x = 13
    · rw [if_pos h13, if_pos h13, e_wk a1, b1, e_nn, e_wk b2.K, J2_size_l b2, e_ob, b3]; exact hok rfl rfl
    rw [if_neg h13, if_neg h13]
    by_cases h14 : x = 14
    · rw [if_pos h14, if_pos h14, e_wk a1, t2, t3]; exact hok rfl rfl
    rw [if_neg h14, if_neg h14]
    obtain ⟨u1, u2⟩ := wi_t.mp hw
    rw [k_0] at u1
    have u2 : x.toInt ≤ 17 := u2
    obtain ⟨s, rfl, s2, -⟩ := i_nat u1
    have hs : 15 ≤ s := by
      have ne : ∀ c : Nat, c < 15 → s ≠ c := by
        intro c hc q
        subst q
        have : s = 0 ∨ s = 1 ∨ s = 2 ∨ s = 3 ∨ s = 4 ∨ s = 5 ∨ s = 6 ∨ s = 7 ∨ s = 8 ∨ s = 9 ∨ s = 10 ∨ s = 11 ∨ s = 12 ∨ s = 13 ∨ s = 14 := by omega
        rcases this with rfl | rfl | rfl | rfl | rfl | rfl | rfl | rfl | rfl | rfl | rfl | rfl | rfl | rfl | rfl
        · exact h0 rfl
        · exact h1 rfl
        · exact h2 rfl
        · exact h3 rfl
        · exact h4 rfl
        · exact h5 rfl
        · exact h6 rfl
        · exact h7 rfl
        · exact h8 rfl
        · exact h9 rfl
        · exact h10 rfl
        · exact h11 rfl
        · exact h12 rfl
        · exact h13 rfl
        · exact h14 rfl
      rcases Nat.lt_or_ge s 15 with q | q
      · exact absurd rfl (ne s q)
      · exact q
    have hw2 : wi_ (nI s) 15 17 = true := wi_t.mpr ⟨by rw [i_n (by omega)]; show (15 : Int) ≤ _; omega, u2⟩
    have hsub : nI s - 15 = nI (s - 15) := by
      rw [i_eq, i_sub (by rw [i_n (by omega)]; show _ ≤ (s : Int) - 15; omega) (by rw [i_n (by omega)]; show (s : Int) - 15 ≤ _; omega), i_n (by omega), i_n (by omega)]
      show (s : Int) - 15 = _
      omega
    rw [X1_in_l, if_pos hw2, e_ob, X1_found_t, e_tcl, bp_0, e_wk a1, r1, e_nn, e_rk (by rw [r2]), hsub, e_inN (by rw [r3]; omega) (by rw [r3]; omega), e_inN (by omega) (by omega), nI_clamp (by omega), r6 _ (by omega)]
    exact hok rfl rfl
theorem op_mark {a o : Nat} {g : GS} {σ : MS} (hr : Rel a o g σ) (x : Int32) : OpT [(1, 1)] a o (X1_mark a x g) (X4_mark x σ) := by
  obtain ⟨ρ, sc, v, n, k, h, y, m, T, hp⟩ := hr
  have hp0 := hp.m (s0_eq (c := 0))
  have hrel : Rel a o g (s_I σ 0 0) := hp0.r MEq.rf
  obtain ⟨⟨⟨⟨a1, -⟩, -⟩, -⟩, ⟨n1, ⟨c1, c2, c3, -, lm, ys, e1, e2, e3, e4⟩, ⟨n3, n4⟩, n5⟩, -⟩ := hp0
  have hlen : nI ys.length - 1 = nI m - 1 := by rw [e3]
  have hm1 : (nI m - 1).toInt = (m : Int) - 1 := by rw [i_sub (by rw [i_n (by omega), k_1]; omega) (by rw [i_n (by omega), k_1]; omega), i_n (by omega), k_1]
  have n3' : m_I σ 4 = nI m := n3
  unfold X1_mark X4_mark X1_aMark
  rw [e_wk a1, e_wk a1, n1, e_nn, e_wk c1, e1, e_nn, e_wk e2.K, J2_size_l e2, e_ob, hlen, X1_in_l, e_ob]
  cases hw : wi_ x 0 (nI m - 1) with
  | false =>
    have key : X4_mark_j22 x (s_I σ 0 0) = some (0, s_I (s_I σ 0 0) 0 1) := by
      unfold X4_mark_j22 X4_mark_j23
      rw [X4_right0 s0_0 (by decide), e_cb, if_pos rfl]
    refine OpT.ex (e := 1) (q := gz g) (r := 0) (g' := g) (σ' := s_I (s_I σ 0 0) 0 1) (dc := 1) (ds := 6) ?_ ?_ (hp.r (s0_eq.trans s0_eq)) (by omega) (by omega) (List.mem_cons_self)
    · show tc_ (tc_ (X1_found 0 g) _ _) _ _ = _
      rw [X1_found_f, e_tcr, e_b0, e_tcr, e_b0]
    · rw [n3']
      have hn : ¬ (0 ≤ x.toInt ∧ x.toInt ≤ (nI m - 1).toInt) := fun q => by
        have := (wi_t (x := x) (lo := 0) (hi := nI m - 1)).mpr ⟨by rw [k_0]; exact q.1, q.2⟩
        rw [hw] at this
        cases this
      by_cases h1 : x < 0
      · rw [if_pos h1, key]
      · rw [if_neg h1, if_pos, key]
        rw [i_lt, k_0] at h1
        rw [i_le, i_n (by omega)]
        omega
  | true =>
    obtain ⟨h1, h2⟩ := wi_t.mp hw
    rw [k_0] at h1
    rw [hm1] at h2
    obtain ⟨s, rfl, s2, -⟩ := i_nat h1
    obtain ⟨z, hz⟩ := get_ex (xs := ys) (k := s) (by omega)
    obtain ⟨f1, f2, f3, f4⟩ := e4 s z hz
    refine OpT.ok (r := m_A (s_I σ 0 0) 53 (6 + s)) (g' := g) (σ' := s_I σ 0 0) (dc := 0) (ds := 0) ?_ ?_ hrel (by omega) (by omega) rfl
    · show tc_ (tc_ (X1_found 1 g) _ _) _ _ = _
      rw [X1_found_t, e_tcl, e_b0, e_tcl, bp_0, e_wk a1, n1, e_nn, e_wk c1, e1, e_nn, e_wk e2.K, J2_get_l e2 hz, e_ob, e_rk f1, J19_intValue_l f1, e_ob, f4]
    · rw [n3', if_neg (nI_pos (by omega)), if_neg (nI_ge (by omega) (by omega))]
      unfold X4_mark_j23
      have h6 : 6 + nI s = nI (6 + s) := nI_add 6 s
      rw [X4_right1 s0_0, e_cb, if_neg nn01, h6, e_inN (by omega) (by omega), nI_clamp (by omega)]
theorem op_kept {a o : Nat} {g : GS} {σ : MS} (hr : Rel a o g σ) (x : Int32) : OpT [(1, 1)] a o (X1_kept_2 a x g) (X4_kept x σ) := by
  obtain ⟨ρ, sc, v, n, k, h, y, m, T, hp⟩ := hr
  have hp0 := hp.m (s0_eq (c := 0))
  have hrel : Rel a o g (s_I σ 0 0) := hp0.r MEq.rf
  have a1 := hp.1.1.1.1
  have hK := hp.2.2.2.2.2.2.2.2.1
  have key : ∀ X : Option (((Int32 ⊕ (Nat × Nat)) × GS) × Nat × Nat), X = X1_kept_2_j28 a x g → ∀ M, M = X4_kept_j30 x (s_I σ 0 0) → OpT [(1, 1)] a o X M := by
    intro X hX M hM
    refine OpT.ex (e := 1) (q := gz g) (r := 0) (g' := g) (σ' := s_I (s_I σ 0 0) 0 1) (dc := 1) (ds := 6) ?_ ?_ (hp.r (s0_eq.trans s0_eq)) (by omega) (by omega) (List.mem_cons_self)
    · rw [hX]
      unfold X1_kept_2_j28 X1_kept_2_j29
      rw [X1_found_f, e_tcr, e_b0]
    · rw [hM]
      unfold X4_kept_j30 X4_kept_j31
      rw [X4_right0 s0_0 (by decide), e_cb, if_pos rfl]
  unfold X1_kept_2 X4_kept
  rw [e_wk a1]
  rcases hK with ⟨k1, k2⟩ | ⟨l, ys, k1, k2, k3, k4, k5⟩
  · rw [if_pos k1, k2, if_pos rfl]
    exact key _ rfl _ rfl
  · have hne : ¬ m_I σ 68 = -1 := by rw [k3, i_eq, i_n (by omega), k_n1]; omega
    rw [if_neg (by omega), if_neg hne]
    by_cases h1 : x < 0
    · rw [if_pos h1, if_pos h1]
      exact key _ rfl _ rfl
    · rw [if_neg h1, if_neg h1, k1, e_nn, e_wk k2.K, J2_size_l k2, e_ob, k3]
      by_cases h2 : nI ys.length ≤ x
      · rw [if_pos h2, if_pos h2]
        exact key _ rfl _ rfl
      · rw [if_neg h2, if_neg h2]
        rw [i_lt, k_0] at h1
        rw [i_le, i_n (by omega)] at h2
        obtain ⟨s, rfl, s2, -⟩ := i_nat (x := x) (by omega)
        obtain ⟨z, hz⟩ := get_ex (xs := ys) (k := s) (by omega)
        obtain ⟨f1, f2, f3, f4⟩ := k5 s z hz
        refine OpT.ok (r := m_A (s_I σ 0 0) 70 s) (g' := g) (σ' := s_I σ 0 0) (dc := 0) (ds := 0) ?_ ?_ hrel (by omega) (by omega) rfl
        · unfold X1_kept_2_j29
          rw [X1_found_t, e_tcl, bp_0, e_wk a1, k1, e_nn, e_wk k2.K, J2_get_l k2 hz, e_ob, e_rk f1, J19_intValue_l f1, e_ob, f4]
          rfl
        · unfold X4_kept_j31
          rw [X4_right1 s0_0, e_cb, if_neg nn01, e_inN (by omega) (by omega), nI_clamp (by omega)]
end
section
/-! LAWS: holes, shots, light, depth, both, quickest (own work) -/
set_option maxRecDepth 100000
theorem MS.ext' {σ τ : MS} (h1 : ∀ k, m_I σ k = m_I τ k) (h2 : m_L σ = m_L τ) (h3 : ∀ j i, m_A σ j i = m_A τ j i) : σ = τ := by
  obtain ⟨a, b, c⟩ := σ
  obtain ⟨a', b', c'⟩ := τ
  have e1 : a = a' := funext h1
  have e2 : b = b' := h2
  have e3 : c = c' := funext fun j => funext fun i => h3 j i
  rw [e1, e2, e3]
theorem sA_sA {σ : MS} {j k : Nat} {v w : Int32} : s_A (s_A σ j k v) j k w = s_A σ j k w := by
  refine MS.ext' (fun _ => rfl) rfl (fun a i => ?_)
  rw [rA_sA, rA_sA, rA_sA]
  by_cases h : a = j ∧ i = k
  · rw [if_pos h, if_pos h]
  · rw [if_neg h, if_neg h, if_neg h]
theorem sA_id {σ : MS} {j k : Nat} {v : Int32} (h : v = m_A σ j k) : s_A σ j k v = σ := by
  refine MS.ext' (fun _ => rfl) rfl (fun a i => ?_)
  rw [rA_sA]
  by_cases q : a = j ∧ i = k
  · rw [if_pos q, q.1, q.2, h]
  · rw [if_neg q]
theorem sI_sI {σ : MS} {k : Nat} {v w : Int32} : s_I (s_I σ k v) k w = s_I σ k w := by
  refine MS.ext' (fun i => ?_) rfl (fun _ _ => rfl)
  rw [rI_sI, rI_sI, rI_sI]
  by_cases h : i = k
  · rw [if_pos h, if_pos h]
  · rw [if_neg h, if_neg h, if_neg h]
theorem sI_id {σ : MS} {k : Nat} {v : Int32} (h : v = m_I σ k) : s_I σ k v = σ := by
  refine MS.ext' (fun i => ?_) rfl (fun _ _ => rfl)
  rw [rI_sI]
  by_cases q : i = k
  · rw [if_pos q, q, h]
  · rw [if_neg q]
def fs_ (p : Nat → Bool) : Nat → Nat → Int32
  | 0, _ => -1
  | d + 1, v => if p v = true then nI v else fs_ p d (v + 1)
theorem LaP.sA {σ : MS} {n T k : Nat} {v : Int32} (h : LaP σ n T) : LaP (s_A σ 53 k v) n T := by
  have e : m_A (s_A σ 53 k v) 9 = m_A σ 9 := (Mf.sA (LI := []) (LA := [53]) (by decide)).Af (by decide)
  unfold LaP
  rw [e]
  exact h
theorem op_holes {a o : Nat} {g : GS} {σ : MS} (hr : Rel a o g σ) (x : Int32) : OpT [(2, 1)] a o (X1_holes a x g) (X4_holes x σ) := by
  obtain ⟨ρ, sc, v, n, k, h, y, m, T, hp⟩ := hr
  have hp0 := hp.m (s0_eq (c := 0))
  unfold X1_holes X4_holes
  rw [X1_in_l, X4_within_l, e_ob, e_ob]
  cases hw : wi_ x 0 601 with
  | false =>
    refine OpT.ex (e := 2) (q := gz g) (r := 0) (g' := g) (σ' := s_I (s_I σ 0 0) 0 1) (dc := 1) (ds := 6) rfl ?_ (hp0.r s0_eq) (by omega) (by omega) (List.mem_cons_self)
    show cb_ (X4_right 0 1 (s_I σ 0 0)) _ = _
    rw [X4_right0 s0_0 (by decide), e_cb, if_pos rfl]
  | true =>
    obtain ⟨g', σ', b1, b2, b3, b4, b5, b6⟩ := take_l hp0
    have hme : MEq (s_I σ 0 0) σ' := b6.eq (by decide) (by decide)
    have hth : m_I σ' 0 = 0 := by rw [b6.I (by decide)]; rfl
    have hrel := hp0.q b4 (nr_ag (r := 9)) hme
    have hof := b3.of
    have hla := b3.la
    have hu := b3.x.2.2.2.1
    obtain ⟨p, hpp⟩ : ∃ p : Nat → Bool, p = fun v => !decide (cnt_ (m_A σ' 63) (nI v) T < x) := ⟨_, rfl⟩
    have hcomp : ∀ d v f, v + d = 61 → d < f → la_ (fun a : Int32 × GS => X1_holes_b18 x (gz g) a.1 a.2) f (nI v, g') = some (if fs_ p d v = -1 then .inr g' else .inl (fs_ p d v, g'), 0, 0) := by
      intro d
      induction d with
      | zero =>
        intro v f hv hf
        obtain ⟨f', rfl⟩ : ∃ f', f = f' + 1 := ⟨f - 1, by omega⟩
        have hb : X1_holes_b18 x (gz g) (nI v) g' = some (.inr (.inr g'), 0, 0) := by
          unfold X1_holes_b18
          rw [if_pos]
          rw [i_lt, i_n (by omega)]
          show (60 : Int) < _
          omega
        rw [la_, hb]
        show _ = some (if (-1 : Int32) = -1 then Sum.inr g' else _, 0, 0)
        rw [if_pos rfl]
      | succ d ih =>
        intro v f hv hf
        obtain ⟨f', rfl⟩ : ∃ f', f = f' + 1 := ⟨f - 1, by omega⟩
        have hb : X1_holes_b18 x (gz g) (nI v) g' = if p v = true then some (.inr (.inl (nI v, g')), 0, 0) else some (.inl (nI (v + 1), g'), 0, 0) := by
          unfold X1_holes_b18
          rw [if_neg, e_wk hu, X11_sharp2_l hof, e_ob, hpp, nI_1]
          · by_cases q : cnt_ (m_A σ' 63) (nI v) T < x
            · simp [q]
            · simp [q]
          · rw [i_lt, i_n (by omega)]
            show ¬ (60 : Int) < _
            omega
        rw [la_, hb]
        unfold fs_
        by_cases q : p v = true
        · rw [if_pos q, if_pos q, if_neg (by rw [i_eq, i_n (by omega), k_n1]; omega)]
        · rw [if_neg q, if_neg q]
          show bp_ 0 0 _ = _
          rw [bp_0]
          exact ih (v + 1) f' (by omega) (by omega)
    obtain ⟨ve, hv1, hv2⟩ : ∃ e, lp_ (fun a : Int32 × Int32 × MS => X4_holes_b40 x (m_A σ' 53 0) a.1 a.2.1 a.2.2) fu_ ((-1), 60, σ') = some e ∧ (e.1 = fs_ p 60 1 ∧ ∃ c, e.2 = s_A σ' 53 0 c) := by
      refine lp_t (I := fun j a => ∃ v, a.2.1 = nI v ∧ v ≤ 60 ∧ j = v ∧ a.1 = fs_ p (60 - v) (v + 1) ∧ ∃ c, a.2.2 = s_A σ' 53 0 c) ?_ fu_ 60 _ ⟨60, rfl, Nat.le_refl _, rfl, rfl, m_A σ' 53 0, (sA_id rfl).symm⟩ (by unfold fu_; omega)
      rintro j ⟨b, i, σ1⟩ ⟨v, e1, e2, e3, e4, c, e5⟩
      simp only at e1 e4 e5 ⊢
      subst e1 e4 e5
      unfold X4_holes_b40 X4_holes_j67
      cases v with
      | zero => exact Or.inr ⟨_, by rw [if_pos (by decide)], rfl, c, rfl⟩
      | succ v =>
        rw [if_neg (nI_nle (by omega) (by omega)), e_i0 (by omega) (by omega), cl_0, sA_sA, X4_sharpMany_l hla.sA, e_ob]
        have e63 : m_A (s_A σ' 53 0 (nI (v + 1))) 63 = m_A σ' 63 := (Mf.sA (LI := []) (LA := [53]) (by decide)).Af (by decide)
        have e0 : m_A (s_A σ' 53 0 (nI (v + 1))) 53 0 = nI (v + 1) := by rw [rA_sA, if_pos ⟨rfl, rfl⟩]
        rw [e63, e0, nI_m1]
        have hd : 60 - v = (60 - (v + 1)) + 1 := by omega
        by_cases q : cnt_ (m_A σ' 63) (nI (v + 1)) T < x
        · rw [if_pos q]
          refine Or.inl ⟨_, v, by omega, rfl, v, rfl, by omega, rfl, ?_, nI (v + 1), rfl⟩
          show fs_ p (60 - (v + 1)) (v + 1 + 1) = fs_ p (60 - v) (v + 1)
          rw [hd, fs_, if_neg (by rw [hpp]; simp [q])]
        · rw [if_neg q]
          refine Or.inl ⟨_, v, by omega, rfl, v, rfl, by omega, rfl, ?_, nI (v + 1), rfl⟩
          show nI (v + 1) = fs_ p (60 - v) (v + 1)
          rw [hd, fs_, if_pos (by rw [hpp]; simp [q])]
    obtain ⟨hv2, c, hv3⟩ := hv2
    refine OpT.ok (r := fs_ p 60 1) (g' := g') (σ' := σ') (dc := 4) (ds := 1811) ?_ ?_ hrel (by omega) (by omega) hth
    · rw [if_pos rfl, X1_right_t, e_tcl, bp_0, e_wk hp.1.1.1.1, b1, e_ca, show (1 : Int32) = nI 1 from rfl, hcomp 60 1 fu_ rfl (by unfold fu_; omega), e_oa, bp_0]
      by_cases q : fs_ p 60 1 = -1
      · rw [if_pos q, q]; rfl
      · rw [if_neg q]; rfl
    · rw [if_pos rfl, X4_right1 s0_0, e_cb, if_neg nn01, b2, e_ob, e_i0 (by omega) (by omega), cl_0, hv1, e_ob, e_i0 (by omega) (by omega), hv2, hv3, sA_sA, sA_id rfl]
/-! shots -/
def stF (f : Nat → Int32) (hole x : Int32) : Nat → Int32 × Int32 → Int32 × Int32 := fun t c => (if (if sh_ hole (f t) = 0 then 0 else c.2 + 1) < x then c.1 else c.1 + 1, if sh_ hole (f t) = 0 then 0 else c.2 + 1)
theorem op_shots {a o : Nat} {g : GS} {σ : MS} (hr : Rel a o g σ) (x : Int32) : OpT [(2, 1)] a o (X1_shots a x g) (X4_shots x σ) := by
  obtain ⟨ρ, sc, v, n, k, h, y, m, T, hp⟩ := hr
  have hp0 := hp.m (s0_eq (c := 0))
  unfold X1_shots X4_shots
  rw [X1_in_l, X4_within_l, e_ob, e_ob]
  cases hw : wi_ x 1 601 with
  | false =>
    refine OpT.ex (e := 2) (q := gz g) (r := 0) (g' := g) (σ' := s_I (s_I σ 0 0) 0 1) (dc := 1) (ds := 6) rfl ?_ (hp0.r s0_eq) (by omega) (by omega) (List.mem_cons_self)
    show cb_ (X4_right 0 1 (s_I σ 0 0)) _ = _
    rw [X4_right0 s0_0 (by decide), e_cb, if_pos rfl]
  | true =>
    obtain ⟨g', σ', b1, b2, b3, b4, b5, b6⟩ := take_l hp0
    have hme : MEq (s_I σ 0 0) σ' := b6.eq (by decide) (by decide)
    have hth : m_I σ' 0 = 0 := by rw [b6.I (by decide)]; rfl
    have hrel := hp0.q b4 (nr_ag (r := 9)) hme
    have hof := b3.of
    have hla := b3.la
    have hx := b3.x
    have hT := hla.2.2.2
    have hu := hx.2.2.2.1
    have hC := b3.1.1
    have hs5 : gI g' sc 6 = nI T := by rw [hC.2.2.2.1.2.2.2.2, b3.2.2.1]
    obtain ⟨k1, -⟩ := fora_l (enc := fun (c : Int32 × Int32) t => (c.1, c.2, nI t, g')) (fun a1 : Int32 × Int32 × Int32 × GS => X1_shots_b24 a x (gz g) a1.1 a1.2.1 a1.2.2.1 a1.2.2.2) T (stF (m_A σ' 63) (m_A σ' 53 0) x) (fun c => (c.1, g')) (fun _ _ => True) (fun _ _ _ _ => trivial)
      (fun t c ht _ => by
        show X1_shots_b24 a x (gz g) c.1 c.2 (nI t) g' = some (Sum.inl ((stF (m_A σ' 63) (m_A σ' 53 0) x t c).1, (stF (m_A σ' 63) (m_A σ' 53 0) x t c).2, nI (t + 1), g'), 0, 0)
        unfold X1_shots_b24 X1_shots_j53 X1_shots_j64 stF
        rw [e_wk hC.1.1, hC.1.2.2.2.1, e_nn, e_wk hC.2.2.2.1.1, hs5, if_neg (nI_nlt ht (by omega)), e_wk hu, X11_isSharp2_l hof hx.1 hx.2.1 ht, e_ob, hx.2.2.1, nI_1]
        rcases sh_01 (hole := m_A σ' 53 0) (v := m_A σ' 63 t) with q | q
        · rw [q, if_pos rfl, if_pos rfl]
          split <;> rfl
        · rw [q, if_neg nn01, if_neg nn01]
          split <;> rfl)
      (fun c _ => by
        show X1_shots_b24 a x (gz g) c.1 c.2 (nI (T + 1)) g' = _
        unfold X1_shots_b24
        rw [e_wk hC.1.1, hC.1.2.2.2.1, e_nn, e_wk hC.2.2.2.1.1, hs5, if_pos (nI_lt (by omega) (by omega))]) (0, 0) trivial (n := fu_) (by unfold fu_; omega)
    obtain ⟨k2, -⟩ := for_l (enc := fun (c : Int32 × Int32) t => (c.1, c.2, nI t)) (fun a : Int32 × Int32 × Int32 => X4_shots_b34 x σ' a.1 a.2.1 a.2.2) T (stF (m_A σ' 63) (m_A σ' 53 0) x) (fun c => c.1) (fun _ _ => True) (fun _ _ _ _ => trivial)
      (fun t c ht _ => by
        show X4_shots_b34 x σ' c.1 c.2 (nI t) = some (Sum.inl ((stF (m_A σ' 63) (m_A σ' 53 0) x t c).1, (stF (m_A σ' 63) (m_A σ' 53 0) x t c).2, nI (t + 1)))
        unfold X4_shots_b34 X4_shots_j59 X4_shots_j71 stF
        rw [hla.l, e_ob, if_neg (nI_nlt ht (by omega)), X4_isSharp_l (by omega), e_ob, nI_1]
        rcases sh_01 (hole := m_A σ' 53 0) (v := m_A σ' 63 t) with q | q
        · rw [q, if_pos rfl, if_pos rfl]
          split
          · rw [Int32.add_zero]
          · rfl
        · rw [q, if_neg nn01, if_neg nn01]
          split
          · rw [Int32.add_zero]
          · rfl)
      (fun c _ => by
        show X4_shots_b34 x σ' c.1 c.2 (nI (T + 1)) = _
        unfold X4_shots_b34
        rw [hla.l, e_ob, if_pos (nI_lt (by omega) (by omega))]) (0, 0) trivial (n := fu_) (by unfold fu_; omega)
    refine OpT.ok (r := (it_ (stF (m_A σ' 63) (m_A σ' 53 0) x) (0, 0) (T + 1)).1) (g' := g') (σ' := σ') (dc := 4) (ds := 1811) ?_ ?_ hrel (by omega) (by omega) hth
    · rw [if_pos rfl, X1_right_t, e_tcl, bp_0, e_wk hp.1.1.1.1, b1, e_ca, show (la_ (fun a1 : Int32 × Int32 × Int32 × GS => X1_shots_b24 a x (gz g) a1.1 a1.2.1 a1.2.2.1 a1.2.2.2) fu_ (0, 0, 0, g')) = _ from k1, e_oa, bp_0]
      rfl
    · rw [if_pos rfl, X4_right1 s0_0, e_cb, if_neg nn01, b2, e_ob, show (lp_ (fun a : Int32 × Int32 × Int32 => X4_shots_b34 x σ' a.1 a.2.1 a.2.2) fu_ (0, 0, 0)) = _ from k2, e_ob]
/-! depth -/
theorem op_depth {a o : Nat} {g : GS} {σ : MS} (hr : Rel a o g σ) (ring what : Int32) : OpT [(1, 1), (2, 2)] a o (X1_depth a ring what g) (X4_depth ring what σ) := by
  obtain ⟨ρ, sc, v, n, k, h, y, m, T, hp⟩ := hr
  have hp0 := hp.m (s0_eq (c := 0))
  unfold X1_depth X4_depth
  cases hw : wi_ what 0 1 with
  | false =>
    refine OpT.ex (e := 1) (q := gz g) (r := 0) (g' := g) (σ' := s_I (s_I σ 0 0) 0 1) (dc := 1) (ds := 6) ?_ ?_ (hp0.r s0_eq) (by omega) (by omega) (List.mem_cons_self)
    · rw [X1_oneOf_f hw, e_tcr, e_b0]
    · rw [X4_isWhat_f s0_0 hw, e_cb, if_pos rfl]
  | true =>
    rw [X1_oneOf_t hw, e_tcl, bp_0, X4_isWhat_t s0_0 hw, e_cb, if_neg nn01, X1_in_l, X4_within_l, e_ob, e_ob]
    cases hw2 : wi_ ring 0 999 with
    | false =>
      refine OpT.ex (e := 2) (q := gz g) (r := 0) (g' := g) (σ' := s_I (s_I σ 0 0) 0 2) (dc := 1) (ds := 6) rfl ?_ (hp0.r s0_eq) (by omega) (by omega) (List.mem_cons_of_mem _ List.mem_cons_self)
      show cb_ (X4_right 0 2 (s_I σ 0 0)) _ = _
      rw [X4_right0 s0_0 (by decide), e_cb, if_pos rfl]
    | true =>
      obtain ⟨r1, r2⟩ := wi_t.mp hw2
      rw [k_0] at r1
      rw [k_999] at r2
      obtain ⟨e, e', dc, ds, m1, m2, m3, m4, m5, m6, m7⟩ := la2_t (body := fun a1 : Int32 × Int32 × GS => X1_depth_b22 a ring what a1.1 a1.2.1 a1.2.2) (body' := fun a : Int32 × Int32 × Int32 × MS => X4_depth_b41 ring what a.1 a.2.1 a.2.2.1 a.2.2.2)
        (I := fun j a b c d => c = 0 ∧ d = 0 ∧ ∃ t, a.2.1 = nI t ∧ b.2.2.1 = nI t ∧ 12 ≤ t ∧ t ≤ 481 ∧ j = 481 - t ∧ a.1 = (if what = 0 then b.1 else b.2.1) ∧ (b.1 = -1 ↔ b.2.1 = -1) ∧ Fr (fun q => q = v) g a.2.2 ∧ Mf [] [57, 58] (s_I σ 0 0) b.2.2.2)
        (Q := fun e e' c d => c = 0 ∧ d = 0 ∧ e.1 = (if what = 0 then e'.1 else e'.2.1) ∧ Fr (fun q => q = v) g e.2 ∧ Mf [] [57, 58] (s_I σ 0 0) e'.2.2)
        (by
          rintro j ⟨b, i1, g1⟩ ⟨l1, l2, i2, σ1⟩ c d ⟨c0, d0, t, e1, e2, t1, t2, t3, e3, e4, e5, e6⟩
          simp only at e1 e2 e3 e4 e5 e6 ⊢
          subst c0 d0 e1 e2
          have hva : ¬ a = v := by
            intro q
            have q1 := hp.1.1.1.1
            rw [q, hp.1.1.2.1.1] at q1
            omega
          have hC1 := hp0.1.1.to e5 (Ag.rf) (fun q _ q1 q2 => by rw [q2, hp.1.1.2.1.2.2.1] at q1; omega) ⟨e5.R hp.1.1.1.2.2.1 hva 0, e5.R hp.1.1.1.2.2.1 hva 2⟩ e6 (by decide) (by decide)
          unfold X1_depth_b22 X4_depth_b41
          by_cases ht : t ≤ 480
          · have hti : (nI t).toInt = (t : Int) := i_n (by omega)
            have hlt : ¬ (480 : Int32) < nI t := by rw [i_lt, hti]; show ¬ (480 : Int) < _; omega
            obtain ⟨r, g2, σ2, f1, f2, f3, f4, f5, f6⟩ := turn_l hC1 (x := nI t) (by omega)
            have hN := hp0.2.1
            have hF2 : Fr (fun q => q = v) g g2 := e5.trans f3 (fun _ _ k => k)
            have ha2 : gK g2 a = 1 := by rw [hF2.K hp.1.1.1.2.2.1, hp.1.1.1.1]
            have hR2 : gR g2 a 1 = y + 1 := by rw [hF2.R hp.1.1.1.2.2.1 hva, hN.1]
            have hM2 := e6.trans f5 (fun _ k => k) (fun _ k => k)
            have hS2 : SetP g2 ρ 2 y m (m_A (s_I σ 0 0) 53) := hN.2.1.to hF2 Ag.rf (fun q _ q1 q2 => by rw [q2, hp.1.1.2.1.2.2.1] at q1; omega)
            have e53 : m_A σ2 53 0 = m_A (s_I σ 0 0) 53 0 := hM2.A (by decide) 0
            rw [if_neg hlt, e_wk hC1.1.1, f1, e_cb, e_wk ha2, hR2, e_nn, e_wk hS2.1, hS2.2.2.2.1.1]
            rw [if_neg hlt, f2, e_cb, (off_l (x := r) (y := ring) (by omega) (by omega)).1, e_ob, e_i0 (by omega) (by omega), cl_0, e53]
            have hst : ∀ (b' l1' l2' : Int32), b' = (if what = 0 then l1' else l2') → (l1' = -1 ↔ l2' = -1) → (∃ a' b'' dc dk m', m' < j ∧ (some (Sum.inl (b', nI t + 1, g2), 0, 0) : Option (((Int32 × Int32 × GS) ⊕ (Int32 × GS)) × Nat × Nat)) = some (.inl a', dc, dk) ∧ (some (Sum.inl (l1', l2', nI t + 1, σ2)) : Option ((Int32 × Int32 × Int32 × MS) ⊕ (Int32 × Int32 × MS))) = some (.inl b'') ∧ dc + 0 = 0 ∧ dk + 0 = 0 ∧ ∃ t, a'.2.1 = nI t ∧ b''.2.2.1 = nI t ∧ 12 ≤ t ∧ t ≤ 481 ∧ m' = 481 - t ∧ a'.1 = (if what = 0 then b''.1 else b''.2.1) ∧ (b''.1 = -1 ↔ b''.2.1 = -1) ∧ Fr (fun q => q = v) g a'.2.2 ∧ Mf [] [57, 58] (s_I σ 0 0) b''.2.2.2) :=
              fun b' l1' l2' q1 q2 => ⟨_, _, 0, 0, j - 1, by omega, rfl, rfl, rfl, rfl, t + 1, nI_1 t, nI_1 t, by omega, by omega, by omega, q1, q2, hF2, hM2⟩
            have htn : nI t ≠ -1 := by rw [Ne, i_eq, hti, k_n1]; omega
            by_cases hc : jabs_ (r - ring) ≤ m_A (s_I σ 0 0) 53 0
            · rw [if_neg (by rw [nlt_le]; exact hc), if_pos hc]
              by_cases hl : l1 = -1
              · rw [if_pos hl]
                by_cases hwh : what = 0
                · rw [if_pos hwh, if_pos (by rw [e3, if_pos hwh, hl])]
                  exact Or.inl (hst _ _ _ (by rw [if_pos hwh]) ⟨fun q => absurd q htn, fun q => absurd q htn⟩)
                · rw [if_neg hwh]
                  exact Or.inl (hst _ _ _ (by rw [if_neg hwh]) ⟨fun q => absurd q htn, fun q => absurd q htn⟩)
              · rw [if_neg hl]
                by_cases hwh : what = 0
                · rw [if_pos hwh, if_neg (by rw [e3, if_pos hwh]; exact hl)]
                  exact Or.inl (hst _ _ _ (by rw [e3, if_pos hwh, if_pos hwh]) ⟨fun q => absurd q hl, fun q => absurd q htn⟩)
                · rw [if_neg hwh]
                  exact Or.inl (hst _ _ _ (by rw [if_neg hwh]) ⟨fun q => absurd q hl, fun q => absurd q htn⟩)
            · rw [if_pos (nle_lt.mp hc), if_neg hc]
              exact Or.inl (hst _ _ _ e3 e4)
          · have hti : (nI t).toInt = (t : Int) := i_n (by omega)
            have hlt : (480 : Int32) < nI t := by rw [i_lt, hti]; show (480 : Int) < _; omega
            rw [if_pos hlt, if_pos hlt]
            exact Or.inr ⟨_, _, 0, 0, rfl, rfl, rfl, rfl, e3, e5, e6⟩)
        fu_ 469 ((-1), 12, g) ((-1), (-1), 12, s_I σ 0 0) 0 0 ⟨rfl, rfl, 12, rfl, rfl, Nat.le_refl _, by omega, rfl, by split <;> rfl, Iff.rfl, Fr.rf, Mf.rf⟩ (by unfold fu_; omega)
      obtain ⟨e1, e2⟩ := e
      obtain ⟨f1, f2, f3⟩ := e'
      simp only at m5 m6 m7
      obtain ⟨rfl⟩ : dc = 0 := by omega
      obtain ⟨rfl⟩ : ds = 0 := by omega
      have hme := m7.eq (by decide) (by decide)
      refine OpT.ok (r := e1) (g' := e2) (σ' := f3) (dc := 0) (ds := 0) ?_ ?_ (hp0.q m6 Ag.rf hme) (by omega) (by omega) (by rw [m7.I (by decide)]; rfl)
      · rw [if_pos rfl, X1_right_t, e_tcl, bp_0, m1, e_oa, bp_0]
      · rw [if_pos rfl, X4_right1 s0_0, e_cb, if_neg nn01, m2, e_ob, m5]
        by_cases hwh : what = 0
        · rw [if_pos hwh, if_pos hwh]
        · rw [if_neg hwh, if_neg hwh]
end
section
/-! LAWS: both, quickest, light (own work) -/
set_option maxRecDepth 100000
/-- a turn between two states of a take that only looks -/
theorem TW.turn {g : GS} {ρ : Nat → Nat} {a sc v u x sa ra oa r m n k h : Nat} {σ : MS} (hT : TW g ρ a sc v u x sa ra oa r m n k h σ) {z : Int32} (hz : 12 ≤ z.toInt ∧ z.toInt ≤ 480) :
    ∃ w g' σ', X1_turnOf a z g = some (w, g') ∧ X4_turnOf z σ = some (w, σ') ∧ TW g' ρ a sc v u x sa ra oa r m n k h σ' ∧ Fr (fun q => q = v) g g' ∧ gz g' = gz g ∧ Mf [] [57, 58] σ σ' ∧ 0 ≤ w.toInt ∧ w.toInt ≤ 999 := by
  obtain ⟨w, g', σ', b1, b2, b3, b4, b5, b6⟩ := turn_l hT.1 hz
  exact ⟨w, g', σ', b1, b2, hT.to (b3.mono (fun _ _ k => Or.inl k)) (b5.mono (fun _ k => k) (by decide)), b3, b4, b5, b6⟩
/-- inches, on both sides -/
theorem TW.inch {g : GS} {ρ : Nat → Nat} {a sc v u x sa ra oa r m n k h : Nat} {σ : MS} (hT : TW g ρ a sc v u x sa ra oa r m n k h σ) {t : Nat} (ht : t ≤ 600) (who : Int32) :
    ∃ z, X11_inches u (nI t) who g = some z ∧ X4_inchesOf (nI t) who σ = some z ∧ 12 ≤ z.toInt ∧ z.toInt ≤ 480 := by
  obtain ⟨⟨⟨A1, A2, A3, A4, A5⟩, -, -, ⟨S1, S2, S3, S4, S5⟩, ⟨⟨P1, P2⟩, -⟩, ⟨Q1, -, -⟩, -, w1, -, w3, -⟩, ⟨⟨U1, -, -⟩, ⟨F0, -, -, -, F7⟩, -, -⟩, ⟨⟨N1, N1'⟩, -⟩, -, hSt, -, hRo⟩ := hT
  have hti : (nI t).toInt = (t : Int) := i_n (by omega)
  have hR4 := hRo.2.2.2.2.1
  refine ⟨ic_ (m_A σ 8) (m_A σ 9) n (m_I σ 1) (m_A σ 53 4) (m_I σ 59) (nI t) who, ?_, X4_inchesOf_l P1 P2 w1 w3 (by omega) (by omega), ic_rg P2 w1 w3 (by omega) (by omega) (by omega)⟩
  rw [X11_inches_l U1 A1 S1 hSt.1 F7 A4 F0 Q1 P2 w1 (by rw [N1]; omega) (by omega), S4, N1, hSt.2.2.2.1.2.2.2.2.2]
/-- whose face it is, on both sides -/
theorem TW.his {g : GS} {ρ : Nat → Nat} {a sc v u x sa ra oa r m n k h : Nat} {σ : MS} (hT : TW g ρ a sc v u x sa ra oa r m n k h σ) (t : Int32) : ∃ w, X2_isHis sc t g = some w ∧ X4_whoseIn t σ = some w := by
  obtain ⟨⟨-, -, -, ⟨S1, S2, S3, S4, S5⟩, ⟨-, ⟨P3, P4⟩, -⟩, ⟨-, Q2, -⟩, -, -, v2, -⟩, -⟩ := hT
  refine ⟨wy_ (m_A σ 10) (m_A σ 11) t 0 k, X2_isHis_l S1 Q2 P4 v2, ?_⟩
  unfold X4_whoseIn
  rw [X4_whoseBy_l P3 P4, e_ob]
theorem op_both {a o : Nat} {g : GS} {σ : MS} (hr : Rel a o g σ) : OpI a o (X1_both a g) (X4_both σ) := by
  obtain ⟨ρ, sc, v, n, k, h, y, m, T, hp⟩ := hr
  have hp0 := hp.m (s0_eq (c := 0))
  obtain ⟨g1, b1, b2, b3, b4⟩ := newtake hp0
  obtain ⟨-, hs1, hT6⟩ := hp0.1
  obtain ⟨e, e', dc, ds, m1, m2, m3, m4, m5, m6, m7⟩ := la2_t (body := fun a1 : Int32 × Int32 × GS => X1_both_b17 a (gz g) a1.1 a1.2.1 a1.2.2) (body' := fun a : Int32 × Int32 × MS => X4_both_b9 a.1 a.2.1 a.2.2)
    (I := fun j a1 b c d => c = 0 ∧ d = 0 ∧ ∃ t, a1.2.1 = nI t ∧ b.2.1 = nI t ∧ t ≤ T + 1 ∧ j = T + 1 - t ∧ a1.1 = b.1 ∧ Fr (fun q => q = v) g1 a1.2.2 ∧ Mf [] [57, 58] (s_I σ 0 0) b.2.2)
    (Q := fun e e' c d => c = 0 ∧ d = 0 ∧ e.1 = e'.1 ∧ Fr (fun q => q = v) g1 e.2 ∧ Mf [] [57, 58] (s_I σ 0 0) e'.2)
    (by
      rintro j ⟨b, i1, g2⟩ ⟨c1, i2, σ2⟩ c d ⟨c0, d0, t, e1, e2, t1, t2, e3, e5, e6⟩
      simp only at e1 e2 e3 e5 e6 ⊢
      subst c0 d0 e1 e2 e3
      have hT2 := b2.to (e5.mono (fun _ _ k => Or.inl k)) (e6.mono (fun _ k => k) (by decide))
      obtain ⟨⟨⟨A1, A2, A3, A4, A5⟩, -, -, ⟨S1, S2, S3, S4, S5⟩, ⟨⟨P1, P2⟩, -⟩, -⟩, ⟨⟨U1, -⟩, -⟩, -⟩ := id hT2
      have e9 : sm_ (m_A σ2 9) n = nI T := by rw [e6.Af (by decide)]; exact hs1
      have hla : LaP σ2 n T := ⟨P1, P2, e9, hT6⟩
      unfold X1_both_b17 X4_both_b9 X4_both_j51
      rw [e_wk A1, A4, e_nn, e_wk S1, S5, e9, hla.l, e_ob]
      by_cases ht : t ≤ T
      · have hlt : ¬ nI T < nI t := nI_nlt ht (by omega)
        obtain ⟨z1, f1, f2, f3⟩ := hT2.inch (t := t) (by omega) 0
        obtain ⟨w1, g3, σ3, h1, h2, h3, h4, h5, h6, h7⟩ := hT2.turn f3
        obtain ⟨z2, f4, f5, f6⟩ := h3.inch (t := t) (by omega) 1
        obtain ⟨w2, g4, σ4, k1, k2, k3, k4, k5, k6, k7⟩ := h3.turn f6
        rw [if_neg hlt, if_neg hlt, e_wk U1, f1, e_ob, h1, e_cb, e_wk h3.2.1.1.1, f4, e_ob, e_wk h3.1.1.1, k1, e_cb, f2, e_ob, h2, e_cb, f5, e_ob, k2, e_cb, (off_l (x := w1) (y := w2) (by omega) (by omega)).1, e_ob, nI_1]
        have hF : Fr (fun q => q = v) g1 g4 := (e5.trans h4 (fun _ _ k => k)).trans k4 (fun _ _ k => k)
        have hM : Mf [] [57, 58] (s_I σ 0 0) σ4 := (e6.trans h6 (fun _ k => k) (fun _ k => k)).trans k6 (fun _ k => k) (fun _ k => k)
        unfold jmax_
        by_cases q : jabs_ (w1 - w2) ≤ b
        · rw [if_pos q, if_neg (by rw [nlt_le]; exact q)]
          exact Or.inl ⟨_, _, 0, 0, j - 1, by omega, rfl, rfl, rfl, rfl, t + 1, rfl, rfl, by omega, by omega, rfl, hF, hM⟩
        · rw [if_neg q, if_pos (nle_lt.mp q)]
          exact Or.inl ⟨_, _, 0, 0, j - 1, by omega, rfl, rfl, rfl, rfl, t + 1, rfl, rfl, by omega, by omega, rfl, hF, hM⟩
      · have hlt : nI T < nI t := nI_lt (by omega) (by omega)
        rw [if_pos hlt, if_pos hlt]
        exact Or.inr ⟨_, _, 0, 0, rfl, rfl, rfl, rfl, rfl, e5, e6⟩)
    fu_ (T + 1) (0, 0, g1) (0, 0, s_I σ 0 0) 0 0 ⟨rfl, rfl, 0, rfl, rfl, Nat.zero_le _, rfl, rfl, Fr.rf, Mf.rf⟩ (by unfold fu_; omega)
  obtain ⟨e1, e2⟩ := e
  obtain ⟨f1, f2⟩ := e'
  simp only at m5 m6 m7
  obtain ⟨rfl⟩ : dc = 0 := by omega
  obtain ⟨rfl⟩ : ds = 0 := by omega
  subst m5
  have hav : ¬ a = gz g := by have := hp.1.1.1.2.2.1; omega
  refine ⟨(e1 + 1) / 2, e2, 4, 1811, f2, ?_, ?_, hp0.q ((b3.mono (W' := fun q => q = v) (fun _ _ k => k.elim)).trans m6 (fun _ _ k => k)) (nr_ag (r := 9)) (m7.eq (by decide) (by decide)), by omega, by omega⟩
  · unfold X1_both
    rw [e_al, e_wk (by rw [K_nw, if_neg hav]; exact hp.1.1.1.1), R_nw, if_neg hav, hp.2.1.1, e_nn, b1, e_ca, m1, e_oa, bp_0, e_dv (by decide), e_b0]
    rfl
  · unfold X4_both
    rw [m2, e_ob, e_dv (by decide)]
theorem op_quickest {a o : Nat} {g : GS} {σ : MS} (hr : Rel a o g σ) (what : Int32) : OpT [(1, 1)] a o (X1_quickest a what g) (X4_quickest what σ) := by
  obtain ⟨ρ, sc, v, n, k, h, y, m, T, hp⟩ := hr
  have hp0 := hp.m (s0_eq (c := 0))
  unfold X1_quickest X4_quickest
  cases hw : wi_ what 0 1 with
  | false =>
    refine OpT.ex (e := 1) (q := gz g) (r := 0) (g' := g) (σ' := s_I (s_I σ 0 0) 0 1) (dc := 1) (ds := 6) ?_ ?_ (hp0.r s0_eq) (by omega) (by omega) (List.mem_cons_self)
    · rw [X1_oneOf_f hw, e_tcr, e_b0]
    · rw [X4_isWhat_f s0_0 hw, e_cb, if_pos rfl]
  | true =>
    rw [X1_oneOf_t hw, e_tcl, bp_0, X4_isWhat_t s0_0 hw, e_cb, if_neg nn01]
    obtain ⟨g1, b1, b2, b3, b4⟩ := newtake hp0
    obtain ⟨-, hs1, hT6⟩ := hp0.1
    obtain ⟨e, e', dc, ds, m1, m2, m3, m4, m5, m6, m7⟩ := la2_t (body := fun a1 : Int32 × Int32 × Int32 × GS => X1_quickest_b26 a what (gz g) a1.1 a1.2.1 a1.2.2.1 a1.2.2.2) (body' := fun a : Int32 × Int32 × Int32 × MS => X4_quickest_b23 what a.1 a.2.1 a.2.2.1 a.2.2.2)
      (I := fun j a1 b c d => c = 0 ∧ d = 0 ∧ ∃ t, a1.2.2.1 = nI (t + 1) ∧ b.2.2.1 = nI (t + 1) ∧ t ≤ T ∧ j = T - t ∧ ((a1.1 = 0 ∧ a1.2.1 = -1 ∧ b.1 = 0 ∧ b.2.1 = 0) ∨ (a1.1 = b.2.1 ∧ a1.2.1 = b.1 ∧ 0 < b.2.1.toInt ∧ 0 ≤ b.1.toInt)) ∧ Fr (fun q => q = v) g1 a1.2.2.2 ∧ Mf [] [57, 58] (s_I σ 0 0) b.2.2.2)
      (Q := fun e e' c d => c = 0 ∧ d = 0 ∧ ((e.1 = 0 ∧ e.2.1 = -1 ∧ e'.1 = 0 ∧ e'.2.1 = 0) ∨ (e.1 = e'.2.1 ∧ e.2.1 = e'.1 ∧ 0 < e'.2.1.toInt ∧ 0 ≤ e'.1.toInt)) ∧ Fr (fun q => q = v) g1 e.2.2 ∧ Mf [] [57, 58] (s_I σ 0 0) e'.2.2)
      (by
        rintro j ⟨b, bm, i1, g2⟩ ⟨c1, c2, i2, σ2⟩ c d ⟨c0, d0, t, e1, e2, t1, t2, e3, e5, e6⟩
        simp only at e1 e2 e3 e5 e6 ⊢
        subst c0 d0 e1 e2
        have hT2 := b2.to (e5.mono (fun _ _ k => Or.inl k)) (e6.mono (fun _ k => k) (by decide))
        obtain ⟨⟨⟨A1, A2, A3, A4, A5⟩, -, -, ⟨S1, S2, S3, S4, S5⟩, ⟨⟨P1, P2⟩, -⟩, -⟩, ⟨⟨U1, -⟩, -⟩, -⟩ := id hT2
        have e9 : sm_ (m_A σ2 9) n = nI T := by rw [e6.Af (by decide)]; exact hs1
        have hla : LaP σ2 n T := ⟨P1, P2, e9, hT6⟩
        unfold X1_quickest_b26 X4_quickest_b23 X4_quickest_j86 X4_quickest_j92 X1_quickest_j103
        rw [e_wk A1, A4, e_nn, e_wk S1, S5, e9, hla.l, e_ob]
        by_cases ht : t + 1 ≤ T
        · have hlt : ¬ nI T < nI (t + 1) := nI_nlt ht (by omega)
          obtain ⟨p1, q1, q2⟩ := hT2.his (nI (t + 1))
          obtain ⟨z1, f1, f2, f3⟩ := hT2.inch (t := t + 1) (by omega) p1
          obtain ⟨w1, g3, σ3, h1, h2, h3, h4, h5, h6, h7⟩ := hT2.turn f3
          obtain ⟨p2, q3, q4⟩ := h3.his (nI t)
          obtain ⟨z2, f4, f5, f6⟩ := h3.inch (t := t) (by omega) p2
          obtain ⟨w2, g4, σ4, k1, k2, k3, k4, k5, k6, k7⟩ := h3.turn f6
          have hoff := off_l (x := w1) (y := w2) (by omega) (by omega)
          have hj0 : 0 ≤ (jabs_ (w1 - w2)).toInt := by rw [hoff.2]; split <;> omega
          rw [if_neg hlt, if_neg hlt, e_nn, e_wk S1, q1, e_ob, e_wk U1, f1, e_ob, h1, e_cb, e_wk h3.1.1.1, h3.1.1.2.2.2.1, e_nn, e_wk h3.1.2.2.2.1.1, nI_pred, q3, e_ob, e_wk h3.2.1.1.1, f4, e_ob, k1, e_cb, q2, e_ob, f2, e_ob, h2, e_cb, q4, e_ob, f5, e_ob, k2, e_cb, hoff.1, e_ob]
          have hF : Fr (fun q => q = v) g1 g4 := (e5.trans h4 (fun _ _ k => k)).trans k4 (fun _ _ k => k)
          have hM : Mf [] [57, 58] (s_I σ 0 0) σ4 := (e6.trans h6 (fun _ k => k) (fun _ k => k)).trans k6 (fun _ k => k) (fun _ k => k)
          have hti : (nI (t + 1)).toInt = ((t + 1 : Nat) : Int) := i_n (by omega)
          have ht0 : 0 < (nI (t + 1)).toInt := by omega
          rcases e3 with ⟨rfl, rfl, rfl, rfl⟩ | ⟨rfl, rfl, u3, u4⟩
          · rw [if_pos (show (-1 : Int32) < jabs_ (w1 - w2) by rw [i_lt, k_n1]; omega), if_pos (show (0 : Int32) ≤ 0 by decide)]
            exact Or.inl ⟨_, _, 0, 0, j - 1, by omega, rfl, rfl, rfl, rfl, t + 1, nI_1 _, nI_1 _, by omega, by omega, Or.inr ⟨rfl, rfl, ht0, hj0⟩, hF, hM⟩
          · have hnle : ¬ b ≤ 0 := by rw [i_le, k_0]; omega
            rw [if_neg hnle]
            by_cases q : bm < jabs_ (w1 - w2)
            · rw [if_pos q, if_pos q]
              exact Or.inl ⟨_, _, 0, 0, j - 1, by omega, rfl, rfl, rfl, rfl, t + 1, nI_1 _, nI_1 _, by omega, by omega, Or.inr ⟨rfl, rfl, ht0, hj0⟩, hF, hM⟩
            · rw [if_neg q, if_neg q]
              exact Or.inl ⟨_, _, 0, 0, j - 1, by omega, rfl, rfl, rfl, rfl, t + 1, nI_1 _, nI_1 _, by omega, by omega, Or.inr ⟨rfl, rfl, u3, u4⟩, hF, hM⟩
        · have hlt : nI T < nI (t + 1) := nI_lt (by omega) (by omega)
          rw [if_pos hlt, if_pos hlt]
          exact Or.inr ⟨_, _, 0, 0, rfl, rfl, rfl, rfl, e3, e5, e6⟩)
      fu_ T (0, (-1), 1, g1) (0, 0, 1, s_I σ 0 0) 0 0 ⟨rfl, rfl, 0, rfl, rfl, Nat.zero_le _, rfl, Or.inl ⟨rfl, rfl, rfl, rfl⟩, Fr.rf, Mf.rf⟩ (by unfold fu_; omega)
    obtain ⟨e1, e2, e3⟩ := e
    obtain ⟨f1, f2, f3⟩ := e'
    simp only at m5 m6 m7
    obtain ⟨rfl⟩ : dc = 0 := by omega
    obtain ⟨rfl⟩ : ds = 0 := by omega
    have hav : ¬ a = gz g := by have := hp.1.1.1.2.2.1; omega
    have hrel := hp0.q ((b3.mono (W' := fun q => q = v) (fun _ _ k => k.elim)).trans m6 (fun _ _ k => k)) (nr_ag (r := 9)) (m7.eq (by decide) (by decide))
    have hth : m_I f3 0 = 0 := by rw [m7.I (by decide)]; rfl
    rw [e_al, e_wk (by rw [K_nw, if_neg hav]; exact hp.1.1.1.1), R_nw, if_neg hav, hp.2.1.1, e_nn, b1, e_ca, m1, e_oa, bp_0, m2, e_ob]
    have hval : jmax_ 0 e2 = f1 ∧ e1 = f2 := by
      rcases m5 with ⟨rfl, rfl, rfl, rfl⟩ | ⟨rfl, rfl, u3, u4⟩
      · exact ⟨rfl, rfl⟩
      · refine ⟨?_, rfl⟩
        unfold jmax_
        by_cases q : (0 : Int32) < e2
        · rw [if_pos q]
        · rw [if_neg q, i_eq, k_0]
          rw [i_lt, k_0] at q
          omega
    by_cases hwh : what = 0
    · rw [if_pos hwh, if_pos hwh]
      refine OpT.ok (r := f1) (g' := e3) (dc := 4) (ds := 1811) ?_ rfl hrel (by omega) (by omega) hth
      rw [← hval.1]
      rfl
    · rw [if_neg hwh, if_neg hwh]
      refine OpT.ok (r := f2) (g' := e3) (dc := 4) (ds := 1811) ?_ rfl hrel (by omega) (by omega) hth
      rw [← hval.2]
      rfl
theorem op_light {a o : Nat} {g : GS} {σ : MS} (hr : Rel a o g σ) (mi tk : Int32) : OpT [(2, 1)] a o (X1_light a mi tk g) (X4_light mi tk σ) := by
  obtain ⟨ρ, sc, v, n, k, h, y, m, T, hp⟩ := hr
  have hp0 := hp.m (s0_eq (c := 0))
  have hbad : OpT [(2, 1)] a o (X1_light_j25 a mi tk 0 g) (X4_light_j31 mi tk 0 (s_I σ 0 0)) := by
    refine OpT.ex (e := 2) (q := gz g) (r := 0) (g' := g) (σ' := s_I (s_I σ 0 0) 0 1) (dc := 1) (ds := 6) rfl ?_ (hp0.r s0_eq) (by omega) (by omega) (List.mem_cons_self)
    unfold X4_light_j31
    rw [X4_right0 s0_0 (by decide), e_cb, if_pos rfl]
  have hgood : OpT [(2, 1)] a o (X1_light_j25 a mi tk 1 g) (X4_light_j31 mi tk 1 (s_I σ 0 0)) := by
    obtain ⟨g', σ', b1, b2, b3, b4, b5, b6⟩ := take_l hp0
    have hme : MEq (s_I σ 0 0) σ' := b6.eq (by decide) (by decide)
    have hth : m_I σ' 0 = 0 := by rw [b6.I (by decide)]; rfl
    have hrel := hp0.q b4 (nr_ag (r := 9)) hme
    have hof := b3.of
    have hla := b3.la
    have hx := b3.x
    have hT := hla.2.2.2
    have hu := hx.2.2.2.1
    have hC := b3.1.1
    have hs5 : gI g' sc 6 = nI T := by rw [hC.2.2.2.1.2.2.2.2, b3.2.2.1]
    have hR0 := b3.1.2.2.2.2.2.2.1
    have hva : ¬ a = v := by
      intro q
      have q1 := hp.1.1.1.1
      rw [q, hp.1.1.2.1.1] at q1
      omega
    have hay : gR g' a 1 = y + 1 := by rw [b4.R hp.1.1.1.2.2.1 hva, hp.2.1.1]
    have hl64 : (nI T + 1).toInt64 = (nI T).toInt64 + 1 := by rw [nI_1, nI_l (by omega), nI_l (by omega), lN_1]
    have e63 : ∀ c, m_A (s_A σ' 53 0 c) 63 = m_A σ' 63 := fun c => (Mf.sA (LI := []) (LA := [53]) (by decide)).Af (by decide)
    have e530 : ∀ c, m_A (s_A σ' 53 0 c) 53 0 = c := fun c => by rw [rA_sA, if_pos ⟨rfl, rfl⟩]
    obtain ⟨e, e', dc, ds, m1, m2, m3, m4, m5, m6, m7⟩ := la2_t (body := fun a1 : Int32 × Int64 × Int64 × Int32 × GS => X1_light_b45 a mi tk (gz g) a1.1 a1.2.1 a1.2.2.1 a1.2.2.2.1 a1.2.2.2.2) (body' := fun a : Int32 × Int64 × Int64 × Int32 × MS => X4_light_b63 mi tk (m_A σ' 53 0) a.1 a.2.1 a.2.2.1 a.2.2.2.1 a.2.2.2.2)
      (I := fun j a1 b c d => c = 0 ∧ d = 0 ∧ ∃ t, a1.2.2.2.1 = nI t ∧ b.2.2.2.1 = nI t ∧ t ≤ 60 ∧ j = 60 - t ∧ a1.1 = b.1 ∧ a1.2.1 = b.2.1 ∧ a1.2.2.1 = b.2.2.1 ∧ g' = a1.2.2.2.2 ∧ ∃ c, b.2.2.2.2 = s_A σ' 53 0 c)
      (Q := fun e e' c d => c = 0 ∧ d = 0 ∧ e.1 = e'.1 ∧ e.2 = g' ∧ ∃ c, e'.2 = s_A σ' 53 0 c)
      (by
        rintro j ⟨b, up, lo, i1, g2⟩ ⟨b', up', lo', i2, σ2⟩ c d ⟨c0, d0, t, e1, e2, t1, t2, e3, e4, e5, e6, c', e7⟩
        simp only at e1 e2 e3 e4 e5 e6 e7 ⊢
        subst c0 d0 e1 e2 e3 e4 e5 e6 e7
        have h60 : ((60 : Int32) - m_A σ' 53 0).toInt = 60 - (m_A σ' 53 0).toInt := by
          have : ((60 : Int32)).toInt = 60 := by decide
          rw [i_sub (by omega) (by omega), this]
        have hti : (nI t).toInt = (t : Int) := i_n (by omega)
        unfold X1_light_b45 X4_light_b63 X1_light_j134 X4_light_j143 X1_light_j146 X4_light_j155
        rw [e_wk hC.1.1, hay, e_nn, e_wk hx.2.1, hx.2.2.1]
        by_cases ht : (60 : Int32) - m_A σ' 53 0 < nI t
        · rw [if_pos ht, if_pos ht]
          exact Or.inr ⟨_, _, 0, 0, rfl, rfl, rfl, rfl, rfl, rfl, c', rfl⟩
        · have ht' := ht
          rw [i_lt, h60, hti] at ht'
          rw [if_neg ht, if_neg ht, e_nn, e_wk hx.2.1, e_wk hu, X11_sharp2_l hof, e_ob, e_i0 (by omega) (by omega), cl_0, sA_sA, X4_sharpMany_l hla.sA, e_ob, e63, e530, hx.2.2.1]
          have hA0 : gR g' a 0 = sc + 1 := hC.1.2.2.2.1
          rw [hA0, e_nn, e_wk hC.2.2.2.1.1, hs5, hl64, hla.sA.l, e_ob, nI_1]
          have hgo : ∀ (q : Int32) (q2 q3 : Int64), (∃ a' b'' dc dk m', m' < j ∧ (some (Sum.inl (q, q2, q3, nI (t + 1), g'), 0, 0) : Option (((Int32 × Int64 × Int64 × Int32 × GS) ⊕ (Int32 × GS)) × Nat × Nat)) = some (.inl a', dc, dk) ∧ (some (Sum.inl (q, q2, q3, nI (t + 1), s_A σ' 53 0 (m_A σ' 53 0 + nI t))) : Option ((Int32 × Int64 × Int64 × Int32 × MS) ⊕ (Int32 × MS))) = some (.inl b'') ∧ dc + 0 = 0 ∧ dk + 0 = 0 ∧ ∃ t, a'.2.2.2.1 = nI t ∧ b''.2.2.2.1 = nI t ∧ t ≤ 60 ∧ m' = 60 - t ∧ a'.1 = b''.1 ∧ a'.2.1 = b''.2.1 ∧ a'.2.2.1 = b''.2.2.1 ∧ g' = a'.2.2.2.2 ∧ ∃ c, b''.2.2.2.2 = s_A σ' 53 0 c) :=
            fun q q2 q3 => ⟨_, _, 0, 0, j - 1, by omega, rfl, rfl, rfl, rfl, t + 1, rfl, rfl, by omega, by omega, rfl, rfl, rfl, rfl, _, rfl⟩
          by_cases q1 : lg_cmp (cnt_ (m_A σ' 63) (m_A σ' 53 0 + nI t) T).toInt64 0 = 0
          · rw [if_pos q1, if_pos q1]
            exact Or.inl (hgo _ _ _)
          · rw [if_neg q1, if_neg q1]
            by_cases q2 : b = -1
            · rw [if_pos q2, if_pos q2]
              exact Or.inl (hgo _ _ _)
            · rw [if_neg q2, if_neg q2]
              split
              · exact Or.inl (hgo _ _ _)
              · exact Or.inl (hgo _ _ _))
      fu_ 60 ((-1), 0, 1, 0, g') ((-1), 0, 1, 0, σ') 0 0 ⟨rfl, rfl, 0, rfl, rfl, Nat.zero_le _, rfl, rfl, rfl, rfl, rfl, m_A σ' 53 0, (sA_id rfl).symm⟩ (by unfold fu_; omega)
    obtain ⟨e1, e2⟩ := e
    obtain ⟨f1, f2⟩ := e'
    obtain ⟨c, m7⟩ := m7
    simp only at m5 m6 m7
    obtain ⟨rfl⟩ : dc = 0 := by omega
    obtain ⟨rfl⟩ : ds = 0 := by omega
    subst m5 m6 m7
    refine OpT.ok (r := e1) (g' := e2) (σ' := σ') (dc := 4) (ds := 1811) ?_ ?_ hrel (by omega) (by omega) hth
    · unfold X1_light_j25
      rw [X1_right_t, e_tcl, bp_0, e_wk hp.1.1.1.1, b1, e_ca, m1, e_oa, bp_0]
      rfl
    · unfold X4_light_j31
      rw [X4_right1 s0_0, e_cb, if_neg nn01, b2, e_ob, e_i0 (by omega) (by omega), cl_0, m2, e_ob, e_i0 (by omega) (by omega), sA_sA, sA_id rfl]
  unfold X1_light X4_light X1_light_j24 X4_light_j30
  rw [X1_in_l, X4_within_l, e_ob, e_ob, X1_in_l, X4_within_l, e_ob, e_ob]
  cases hw : wi_ mi 0 99 with
  | false => exact hbad
  | true =>
    rw [if_pos rfl, if_neg nn01, if_neg nn01]
    cases hw2 : wi_ tk 1 99 with
    | false => exact hbad
    | true =>
      rw [if_pos rfl, if_neg nn01, if_neg nn01]
      exact hgood
end
section
/-! LAWS: takes run again and again: what they need (own work) -/
set_option maxRecDepth 100000
/-- run().sharp() -/
theorem TW.rs {g : GS} {ρ : Nat → Nat} {a sc v u x sa ra oa r m n k h T : Nat} {σ : MS} (hT : TW g ρ a sc v u x sa ra oa r m n k h σ) (hs : sm_ (m_A σ 9) n = nI T) (hT6 : T ≤ 600) :
    ∃ w g' σ', X11_run u g = some (u, g') ∧ X11_sharp u g' = some w ∧ X4_goesThrough σ = some σ' ∧ X4_takesSharp σ = some (w, σ') ∧ AR g' ρ a sc v u x sa ra oa r m n k h T σ' ∧ Fr (tw_ v sa ra oa) g g' ∧ gz g' = gz g ∧ Mf [] [57, 58, 61, 62, 63] σ σ' ∧ 0 ≤ w.toInt ∧ w.toInt ≤ 2000 := by
  obtain ⟨g', σ', b1, b2, b3, b4, b5, b6⟩ := run_l hT
  have hTT : (sm_ (m_A σ 9) n).toInt.toNat + 1 = T + 1 := by rw [hs, i_n (by omega)]; omega
  rw [hTT] at b6
  have hAR : AR g' ρ a sc v u x sa ra oa r m n k h T σ' := ⟨hT.to b3 b5, b6, by rw [b5.Af (by decide)]; exact hs, hT6⟩
  have hx := hAR.x
  have hsh := X11_sharp_l hAR.of hx.1 hx.2.1
  rw [hx.2.2.1] at hsh
  have hc := cnt_rg (f := m_A σ' 63) (hole := m_A σ' 53 0) (T + 1) (by omega)
  refine ⟨cnt_ (m_A σ' 63) (m_A σ' 53 0) T, g', σ', b1, hsh, b2, ?_, hAR, b3, b4, b5, hc.1, ?_⟩
  · unfold X4_takesSharp
    rw [b2, e_ob, X4_sharpMany_l hAR.la, e_ob]
  · have := hc.2
    show (it_ (cF (m_A σ' 63) (m_A σ' 53 0)) 0 (T + 1)).toInt ≤ 2000
    omega
/-- a number of the take is set -/
theorem TW.pu {g : GS} {ρ : Nat → Nat} {a sc v u x sa ra oa r m n k h : Nat} {σ σ' : MS} {f : Nat} {w : Int32} (hT : TW g ρ a sc v u x sa ra oa r m n k h σ) (hn : TnP (pI g u f w) u σ') (hM : Mf [59, 60, 64] [] σ σ') : TW (pI g u f w) ρ a sc v u x sa ra oa r m n k h σ' := by
  obtain ⟨hC, hK, hN, ⟨hr, hS, ⟨hm, hm6⟩, hR⟩⟩ := hT
  have hF : Fr (fun q => q = u) g (pI g u f w) := Fr.pI rfl
  have hu1 := hK.1.1
  have hu2 := hK.1.2.1
  have hau : ¬ a = u := by intro q; have := hC.1.1; rw [q, hu1] at this; omega
  refine ⟨hC.to hF Ag.rf (fun q _ k k' => by rw [k', hu2] at k; omega) ⟨rfl, rfl⟩ hM (by decide) (by decide), hK.to hF Ag.rf (fun _ => rfl), hn, hr, ?_, ⟨by rw [hM.I (by decide)]; exact hm, hm6⟩, ?_⟩
  · rw [hM.Af (by decide)]
    exact hS.to hF Ag.rf (fun q _ k k' => by rw [k', hu2] at k; omega)
  · rw [hM.Af (by decide)]; exact hR
theorem TnP.at4 {g : GS} {u : Nat} {σ : MS} {w : Int32} (h : TnP g u σ) (hw : 0 ≤ w.toInt ∧ w.toInt ≤ 100) : TnP (pI g u 4 w) u (s_I σ 59 w) := by
  obtain ⟨h1, h2, h3⟩ := h
  unfold TnP
  simp [I_pI, rI_sI]
  exact ⟨hw, h2, h3⟩
theorem TnP.at5 {g : GS} {u : Nat} {σ : MS} {w : Int32} (h : TnP g u σ) (hw : -24 ≤ w.toInt ∧ w.toInt ≤ 24) : TnP (pI g u 5 w) u (s_I σ 64 w) := by
  obtain ⟨h1, h2, h3⟩ := h
  unfold TnP
  simp [I_pI, rI_sI]
  exact ⟨h1, hw, h3⟩
theorem TnP.at6 {g : GS} {u : Nat} {σ : MS} {w : Int32} (h : TnP g u σ) (hw : -24 ≤ w.toInt ∧ w.toInt ≤ 24) : TnP (pI g u 6 w) u (s_I σ 60 w) := by
  obtain ⟨h1, h2, h3⟩ := h
  unfold TnP
  simp [I_pI, rI_sI]
  exact ⟨h1, h2, hw⟩
/-- a field of the take's own settings is set -/
theorem TW.px {g : GS} {ρ : Nat → Nat} {a sc v u x sa ra oa m n k h : Nat} {σ : MS} {f f' : Nat} {w : Int32} (hT : TW g ρ a sc v u x sa ra oa 10 m n k h σ) (hk : (f = 0 ∧ f' = 0) ∨ (f = 1 ∧ f' = 1) ∨ (f = 2 ∧ f' = 2) ∨ (f = 3 ∧ f' = 3) ∨ (f = 4 ∧ f' = 5) ∨ (f = 5 ∧ f' = 4)) (hR' : RowOK (fun i => if i = f' then w else m_A σ 53 i) m h) :
    TW (pI g x f w) ρ a sc v u x sa ra oa 10 m n k h (s_A σ 53 f' w) := by
  obtain ⟨hC, hK, hN, ⟨hr, hS, ⟨hm, hm6⟩, hR⟩⟩ := hT
  have hF : Fr (fun q => q = x) g (pI g x f w) := Fr.pI rfl
  have hM : Mf [] [53] σ (s_A σ 53 f' w) := Mf.sA (by decide)
  have hx1 := hS.1
  have hx2 := hS.2.1
  have hux : ¬ u = x := by intro q; have := hK.1.1; rw [q, hx1] at this; omega
  have hrow : m_A (s_A σ 53 f' w) 53 = fun i => if i = f' then w else m_A σ 53 i := by
    funext i
    rw [rA_sA]
    by_cases q : i = f'
    · rw [if_pos ⟨rfl, q⟩, if_pos q]
    · rw [if_neg (by rintro ⟨-, k⟩; exact q k), if_neg q]
  refine ⟨hC.to hF Ag.rf (fun q _ k k' => by rw [k', hx2] at k; omega) ⟨rfl, rfl⟩ hM (by decide) (by decide), hK.to hF Ag.rf (fun _ => rfl), ?_, hr, ?_, ⟨hm, hm6⟩, ?_⟩
  · obtain ⟨⟨n1, n1'⟩, ⟨n2, n2'⟩, n3, n3'⟩ := hN
    exact ⟨⟨by rw [I_pI, if_neg (by rintro ⟨q, -⟩; exact hux q), n1]; rfl, n1'⟩, ⟨by rw [I_pI, if_neg (by rintro ⟨q, -⟩; exact hux q), n2]; rfl, n2'⟩, by rw [I_pI, if_neg (by rintro ⟨q, -⟩; exact hux q), n3]; rfl, n3'⟩
  · rw [hrow]
    exact hS.put hk
  · rw [hrow]; exact hR'
theorem RowOK.put {S : Nat → Int32} {m h f : Nat} {w : Int32} (hR : RowOK S m h) (hw : (f = 1 ∧ 0 ≤ w.toInt ∧ w.toInt ≤ 24) ∨ (f = 2 ∧ 1 ≤ w.toInt ∧ w.toInt ≤ 90) ∨ (f = 3 ∧ -30 ≤ w.toInt ∧ w.toInt ≤ 30) ∨ (f = 5 ∧ -1 ≤ w.toInt ∧ w.toInt < h) ∨ (f = 0 ∧ 1 ≤ w.toInt ∧ w.toInt ≤ 60) ∨ (f = 4 ∧ 0 ≤ w.toInt ∧ w.toInt ≤ 200) ∨ (6 ≤ f ∧ 12 ≤ w.toInt ∧ w.toInt ≤ 480)) : RowOK (fun i => if i = f then w else S i) m h := by
  obtain ⟨r0, r1, r2, r3, r4, r5, r6⟩ := hR
  refine ⟨?_, ?_, ?_, ?_, ?_, ?_, fun i hi => ?_⟩
  all_goals (simp only; split <;> first | omega | skip)
  exact r6 i hi
/-- a new take over a copy of the settings in force -/
theorem newtakec {a o sc v n k h x m T : Nat} {g : GS} {ρ : Nat → Nat} {σ : MS} (hp : RelP a o sc v n k h x m T g ρ σ) :
    ∃ g1 g2 ρ2 dc ds, X3_copy x (nw_ g 10 8) = some ((gz g + 1, g1), dc, ds) ∧ X11_init (gz g) a (gz g + 1) g1 = some (((), g2), 3, 1803) ∧ TW g2 ρ2 a sc v (gz g) (gz g + 1) (gz g1) (gz g1 + 1) (gz g1 + 2) 10 m n k h σ ∧ Fr no_ g g1 ∧ Fr no_ g g2 ∧ Ag g ρ ρ2 ∧ gz g + 2 ≤ gz g1 ∧ gz g1 < gz g2 ∧ dc ≤ 8 ∧ ds ≤ 90 := by
  obtain ⟨⟨hC, -, -⟩, ⟨n1, n2, ⟨n3, n3'⟩, n4⟩, hZ, -, -, -, -, -, -, -, hE, -⟩ := hp
  have F : Fr no_ g (nw_ g 10 8) := Fr.nw
  have hA : Ag g ρ (nr ρ g 9) := nr_ag
  obtain ⟨g1, dc, ds, a1, a2, a3, a4, a5, a6⟩ := X3_copy_l (hE.1.to F hA) (n2.to F hA (fun _ _ _ k => k)) n3' 10
  rw [z_nw] at a1 a2 a4
  have hA1 : Ag (nw_ g 10 8) (nr ρ g 9) (nr (nr ρ g 9) (nw_ g 10 8) 10) := nr_ag
  have F1 : Fr no_ g g1 := F.trans a3 (fun _ _ k => k)
  have hA2 : Ag g ρ (nr (nr ρ g 9) (nw_ g 10 8) 10) := hA.trans hA1 (by rw [z_nw]; omega)
  have ha := hC.1.2.2.1
  have hC1 : CW g1 (nr (nr ρ g 9) (nw_ g 10 8) 10) a sc v n k h σ := hC.to F1 hA2 (fun _ _ _ k => k) ⟨F1.R ha (fun k => k) 0, F1.R ha (fun k => k) 2⟩ (LI := []) (LA := []) Mf.rf (by decide) (by decide)
  have hI : ∀ i, gI g1 (gz g) i = 0 := fun i => by rw [a3.I (by rw [z_nw]; omega) (fun k => k), I_nw, if_pos rfl]
  have hK : gK g1 (gz g) = 10 := by rw [a3.K (by rw [z_nw]; omega), K_nw, if_pos rfl]
  obtain ⟨g2, b1, b2, b3, b4⟩ := tkinit (u := gz g) (s := gz g + 1) (r := 10) (m := m) hC1 ⟨⟨by omega, by omega⟩, a2, ⟨n3, n3'⟩, n4⟩ ⟨hK, by rw [nr_lt (by rw [z_nw]; omega)]; exact nr_ge (Nat.le_refl _), by omega⟩ (TnP0 hZ (hI 4) (hI 5) (hI 6))
  exact ⟨g1, g2, _, dc, ds, a1, b1, b2, F1, F1.trans b3 (fun q hq k => by omega), hA2.trans nr_ag (by have := F1.z; omega), by omega, by omega, a5, a6⟩
/-- isAsSeen, behind a run -/
theorem RelP.seen {a o sc v n k h x m T : Nat} {g : GS} {ρ : Nat → Nat} {σ : MS} (hp : RelP a o sc v n k h x m T g ρ σ) {g' : GS} {ρ' : Nat → Nat} {u x' sa ra oa r : Nat} {σ' : MS} (hF : Fr (fun q => q = v) g g') (hA : AR g' ρ' a sc v u x' sa ra oa r m n k h T σ') (e75 : m_A σ' 75 = m_A σ 75) (e74 : m_I σ' 74 = m_I σ 74) : ∃ w, X11_isAsSeen u g' = some w ∧ X4_isAsSeen σ' = some w ∧ (w = 0 ∨ w = 1) := by
  have hC := hp.1.1
  obtain ⟨nf, f1, f2, f3, f4⟩ := hp.2.2.2.2.2.2.1
  have hva : ¬ a = v := by intro q; have := hC.1.1; rw [q, hC.2.1.1] at this; omega
  have hf1 : PlP g' ρ 4 a 8 nf (fun k => m_A σ 75 (2 * k)) (fun k => m_A σ 75 (2 * k + 1)) := f1.to hC.1.2.2.1 hva hF Ag.rf (fun q _ q1 q2 => by rw [q2, hC.2.1.2.2.1] at q1; omega)
  have hx := hA.x
  rw [← e75] at hf1 f4
  exact seen_l hA.of hx.1 hx.2.1 hx.2.2.1 hA.la hx.2.2.2.2.1 hf1 (by rw [e74]; exact f2) f3 f4
/-- a number that was nought is nought again -/
theorem meqI {LI LA : List Nat} {σ σe : MS} {c : Nat} (hc : m_I σ c = 0) (h : Mf LI LA σ σe) (hI : ∀ k, k ∈ relI → k ≠ c → k ∉ LI) (hA : ∀ j, j ∈ relA → j ∉ LA) : MEq σ (s_I σe c 0) := by
  refine ⟨fun k hk => ?_, fun j hj => h.Af (hA j hj)⟩
  rw [rI_sI]
  by_cases q : k = c
  · rw [if_pos q, q, hc]
  · rw [if_neg q, h.I (hI k hk q)]
/-- a place of the row that was set is what it was -/
theorem meqA {LI LA : List Nat} {σ σe : MS} {f : Nat} (h : Mf LI LA σ σe) (hrow : ∀ i, i ≠ f → m_A σe 53 i = m_A σ 53 i) (hI : ∀ k, k ∈ relI → k ∉ LI) (hA : ∀ j, j ∈ relA → j ≠ 53 → j ∉ LA) : MEq σ (s_A σe 53 f (m_A σ 53 f)) := by
  refine ⟨fun k hk => h.I (hI k hk), fun j hj => ?_⟩
  funext i
  rw [rA_sA]
  by_cases q : j = 53
  · subst q
    by_cases q2 : i = f
    · rw [if_pos ⟨rfl, q2⟩, q2]
    · rw [if_neg (by rintro ⟨-, k⟩; exact q2 k), hrow i q2]
  · rw [if_neg (by rintro ⟨k, -⟩; exact q k), h.A (hA j hj q)]
theorem par_l : ∀ t : Fin 49, ((nI t.val - nI t.val / 2 * 2) = 0 ∧ ¬ (nI t.val - nI t.val / 2 * 2) = 1 ∧ -24 ≤ (nI t.val / 2).toInt ∧ (nI t.val / 2).toInt ≤ 24) ∨ (¬ (nI t.val - nI t.val / 2 * 2) = 0 ∧ (nI t.val - nI t.val / 2 * 2) = 1 ∧ (-(nI t.val + 1)) / 2 = 0 - ((nI t.val + 1) / 2) ∧ -24 ≤ (0 - ((nI t.val + 1) / 2)).toInt ∧ (0 - ((nI t.val + 1) / 2)).toInt ≤ 24) := by decide +kernel
end
section
/-! LAWS: foretell, shift (own work; printed by gen) -/
set_option maxRecDepth 100000
theorem op_foretell {a o : Nat} {g : GS} {σ : MS} (hr : Rel a o g σ) (what : Int32) : OpT [(1, 1)] a o (X1_foretell a what g) (X4_foretell what σ) := by
  obtain ⟨ρ, sc, v, n, k, h, y, m, T, hp⟩ := hr
  have hp0 := hp.m (s0_eq (c := 0))
  unfold X1_foretell X4_foretell
  cases hw : wi_ what 0 1 with
  | false =>
    refine OpT.ex (e := 1) (q := gz g) (r := 0) (g' := g) (σ' := s_I (s_I σ 0 0) 0 1) (dc := 1) (ds := 6) ?_ ?_ (hp0.r s0_eq) (by omega) (by omega) (List.mem_cons_self)
    · rw [X1_oneOf_f hw, e_tcr, e_b0]
    · rw [X4_isWhat_f s0_0 hw, e_cb, if_pos rfl]
  | true =>
    rw [X1_oneOf_t hw, e_tcl, bp_0, X4_isWhat_t s0_0 hw, e_cb, if_neg nn01]
    obtain ⟨g1, b1, b2, b3, b4⟩ := newtake hp0
    obtain ⟨-, hs1, hT6⟩ := hp0.1
    obtain ⟨e, e', dc, ds, m1, m2, m3, m4, m5, m6, m7, m8⟩ := la2_t (body := fun a1 : Int32 × Int32 × Int32 × GS => X1_foretell_b26 what (gz g) a1.1 a1.2.1 a1.2.2.1 a1.2.2.2) (body' := fun a : Int32 × Int32 × Int32 × MS => X4_foretell_b23 what a.1 a.2.1 a.2.2.1 a.2.2.2)
      (I := fun j a1 b c d => c = 0 ∧ d = 0 ∧ ∃ t, a1.2.2.1 = nI t ∧ b.2.2.1 = nI t ∧ t ≤ 49 ∧ j = 49 - t ∧ a1.1 = b.1 ∧ a1.2.1 = b.2.1 ∧ TW a1.2.2.2 (nr ρ g 9) a sc v (gz g) y (gz g + 1) (gz g + 2) (gz g + 3) 2 m n k h b.2.2.2 ∧ Fr (fun q => q = v) g a1.2.2.2 ∧ Mf [64] [57, 58, 61, 62, 63] (s_I σ 0 0) b.2.2.2)
      (Q := fun e e' c d => c = 0 ∧ d = 0 ∧ e.1 = e'.1 ∧ e.2.1 = e'.2.1 ∧ Fr (fun q => q = v) g e.2.2 ∧ Mf [64] [57, 58, 61, 62, 63] (s_I σ 0 0) e'.2.2)
      (by
        rintro j ⟨b, bm, i1, g2⟩ ⟨c1, c2, i2, σ2⟩ c d ⟨c0, d0, t, e1, e2, t1, t2, e3, e4, e5, e6, e7⟩
        simp only at e1 e2 e3 e4 e5 e6 e7 ⊢
        subst c0 d0 e1 e2 e3 e4
        unfold X1_foretell_b26 X4_foretell_b23
        by_cases ht : t ≤ 48
        · have hlt : ¬ (48 : Int32) < nI t := nI_nlt (b := t) (a := 48) ht (by omega)
          have key : ∀ w : Int32, -24 ≤ w.toInt ∧ w.toInt ≤ 24 → ∃ a' b'' dc dk m', m' < j ∧ X1_foretell_j55 what (gz g) b bm (nI t) (gz g) w g2 = some (.inl a', dc, dk) ∧ X4_foretell_j54 what b bm (nI t) w σ2 = some (.inl b'') ∧ dc + 0 = 0 ∧ dk + 0 = 0 ∧ ∃ t, a'.2.2.1 = nI t ∧ b''.2.2.1 = nI t ∧ t ≤ 49 ∧ m' = 49 - t ∧ a'.1 = b''.1 ∧ a'.2.1 = b''.2.1 ∧ TW a'.2.2.2 (nr ρ g 9) a sc v (gz g) y (gz g + 1) (gz g + 2) (gz g + 3) 2 m n k h b''.2.2.2 ∧ Fr (fun q => q = v) g a'.2.2.2 ∧ Mf [64] [57, 58, 61, 62, 63] (s_I σ 0 0) b''.2.2.2 := by
            intro w hwr
            have hT3 := e5.pu (f := 5) (w := w) (e5.2.2.1.at5 hwr) ((Mf.sI (LI := [59, 60, 64]) (LA := []) (by decide)))
            obtain ⟨r, g4, σ4, f1, f2, f3, f4, f5, f6, f7, f8, f9⟩ := hT3.rs (T := T) (by rw [(Mf.sI (LI := [64]) (LA := []) (by decide)).Af (by decide), e7.Af (by decide)]; exact hs1) hT6
            have hu := e5.2.1.1.1
            have hN4 := f5.1.2.2.1
            have hM4 : Mf [64] [57, 58, 61, 62, 63] (s_I σ 0 0) σ4 := (e7.trans (Mf.sI (LI := [64]) (LA := []) (by decide)) (fun _ k => k) (by decide)).trans f8 (by decide) (fun _ k => k)
            have hF4 : Fr (fun q => q = v) g g4 := (e6.trans (Fr.pI (W := fun q => q = gz g) rfl) (fun q hq k => by omega)).trans f6 (fun q hq k => by
              rcases k with k | k | k | k
              · exact k
              · omega
              · omega
              · omega)
            have hv5 : gI g4 (gz g) 5 = m_I σ4 64 := hN4.2.1.1
            unfold X1_foretell_j55 X4_foretell_j54 X1_foretell_j86 X4_foretell_j80
            rw [e_wk hu, e_wk (by exact hu), f1, e_cb, e_wk f5.1.2.1.1.1, f2, e_ob, f4, e_cb, nI_1]
            by_cases q : bm < r
            · rw [if_pos q, if_pos q, e_wk f5.1.2.1.1.1, hv5]
              exact ⟨_, _, 0, 0, j - 1, by omega, rfl, rfl, rfl, rfl, t + 1, rfl, rfl, by omega, by omega, rfl, rfl, f5.1, hF4, hM4⟩
            · rw [if_neg q, if_neg q]
              exact ⟨_, _, 0, 0, j - 1, by omega, rfl, rfl, rfl, rfl, t + 1, rfl, rfl, by omega, by omega, rfl, rfl, f5.1, hF4, hM4⟩
          rw [if_neg hlt, if_neg hlt, e_dv (by decide), e_dv (by decide), e_dv (by decide), e_dv (by decide)]
          rcases par_l ⟨t, by omega⟩ with ⟨q1, q2, q3⟩ | ⟨q1, q2, q3, q4⟩
          · rw [if_pos q1, if_neg q2]
            exact Or.inl (key _ q3)
          · rw [if_neg q1, if_pos q2, q3]
            exact Or.inl (key _ q4)
        · have hlt : (48 : Int32) < nI t := nI_lt (a := 48) (b := t) (by omega) (by omega)
          rw [if_pos hlt, if_pos hlt]
          exact Or.inr ⟨_, _, 0, 0, rfl, rfl, rfl, rfl, rfl, rfl, e6, e7⟩)
      fu_ 49 (0, (-1), 0, g1) (0, (-1), 0, s_I σ 0 0) 0 0 ⟨rfl, rfl, 0, rfl, rfl, Nat.zero_le _, rfl, rfl, rfl, b2, b3.mono (fun _ _ k => k.elim), Mf.rf⟩ (by unfold fu_; omega)
    obtain ⟨e1, e2, e3⟩ := e
    obtain ⟨f1, f2, f3⟩ := e'
    simp only at m5 m6 m7 m8
    obtain ⟨rfl⟩ : dc = 0 := by omega
    obtain ⟨rfl⟩ : ds = 0 := by omega
    subst m5 m6
    have hav : ¬ a = gz g := by have := hp.1.1.1.2.2.1; omega
    have hrel := hp0.q m7 (nr_ag (r := 9)) (meqI (c := 64) hp0.2.2.1.2.2 m8 (by decide) (by decide))
    have hth : m_I (s_I f3 64 0) 0 = 0 := by rw [rI_sI, if_neg (by decide), m8.I (by decide)]; rfl
    rw [e_al, e_wk (by rw [K_nw, if_neg hav]; exact hp.1.1.1.1), R_nw, if_neg hav, hp.2.1.1, e_nn, b1, e_ca, m1, e_oa, bp_0, m2, e_ob]
    by_cases hwh : what = 0
    · rw [if_pos hwh, if_pos hwh]
      exact OpT.ok (dc := 4) (ds := 1811) rfl rfl hrel (by omega) (by omega) hth
    · rw [if_neg hwh, if_neg hwh]
      exact OpT.ok (dc := 4) (ds := 1811) rfl rfl hrel (by omega) (by omega) hth
theorem op_shift {a o : Nat} {g : GS} {σ : MS} (hr : Rel a o g σ) (what : Int32) : OpT [(1, 1)] a o (X1_shift a what g) (X4_shift what σ) := by
  obtain ⟨ρ, sc, v, n, k, h, y, m, T, hp⟩ := hr
  have hp0 := hp.m (s0_eq (c := 0))
  unfold X1_shift X4_shift
  cases hw : wi_ what 0 1 with
  | false =>
    refine OpT.ex (e := 1) (q := gz g) (r := 0) (g' := g) (σ' := s_I (s_I σ 0 0) 0 1) (dc := 1) (ds := 6) ?_ ?_ (hp0.r s0_eq) (by omega) (by omega) (List.mem_cons_self)
    · rw [X1_oneOf_f hw, e_tcr, e_b0]
    · rw [X4_isWhat_f s0_0 hw, e_cb, if_pos rfl]
  | true =>
    rw [X1_oneOf_t hw, e_tcl, bp_0, X4_isWhat_t s0_0 hw, e_cb, if_neg nn01]
    obtain ⟨g1, b1, b2, b3, b4⟩ := newtake hp0
    obtain ⟨-, hs1, hT6⟩ := hp0.1
    obtain ⟨e, e', dc, ds, m1, m2, m3, m4, m5, m6, m7, m8⟩ := la2_t (body := fun a1 : Int32 × Int32 × Int32 × GS => X1_shift_b26 what (gz g) a1.1 a1.2.1 a1.2.2.1 a1.2.2.2) (body' := fun a : Int32 × Int32 × Int32 × MS => X4_shift_b23 what a.1 a.2.1 a.2.2.1 a.2.2.2)
      (I := fun j a1 b c d => c = 0 ∧ d = 0 ∧ ∃ t, a1.2.2.1 = nI t ∧ b.2.2.1 = nI t ∧ t ≤ 49 ∧ j = 49 - t ∧ a1.1 = b.1 ∧ a1.2.1 = b.2.1 ∧ TW a1.2.2.2 (nr ρ g 9) a sc v (gz g) y (gz g + 1) (gz g + 2) (gz g + 3) 2 m n k h b.2.2.2 ∧ Fr (fun q => q = v) g a1.2.2.2 ∧ Mf [60] [57, 58, 61, 62, 63] (s_I σ 0 0) b.2.2.2)
      (Q := fun e e' c d => c = 0 ∧ d = 0 ∧ e.1 = e'.1 ∧ e.2.1 = e'.2.1 ∧ Fr (fun q => q = v) g e.2.2 ∧ Mf [60] [57, 58, 61, 62, 63] (s_I σ 0 0) e'.2.2)
      (by
        rintro j ⟨b, bm, i1, g2⟩ ⟨c1, c2, i2, σ2⟩ c d ⟨c0, d0, t, e1, e2, t1, t2, e3, e4, e5, e6, e7⟩
        simp only at e1 e2 e3 e4 e5 e6 e7 ⊢
        subst c0 d0 e1 e2 e3 e4
        unfold X1_shift_b26 X4_shift_b23
        by_cases ht : t ≤ 48
        · have hlt : ¬ (48 : Int32) < nI t := nI_nlt (b := t) (a := 48) ht (by omega)
          have key : ∀ w : Int32, -24 ≤ w.toInt ∧ w.toInt ≤ 24 → ∃ a' b'' dc dk m', m' < j ∧ X1_shift_j55 what (gz g) b bm (nI t) (gz g) w g2 = some (.inl a', dc, dk) ∧ X4_shift_j54 what b bm (nI t) w σ2 = some (.inl b'') ∧ dc + 0 = 0 ∧ dk + 0 = 0 ∧ ∃ t, a'.2.2.1 = nI t ∧ b''.2.2.1 = nI t ∧ t ≤ 49 ∧ m' = 49 - t ∧ a'.1 = b''.1 ∧ a'.2.1 = b''.2.1 ∧ TW a'.2.2.2 (nr ρ g 9) a sc v (gz g) y (gz g + 1) (gz g + 2) (gz g + 3) 2 m n k h b''.2.2.2 ∧ Fr (fun q => q = v) g a'.2.2.2 ∧ Mf [60] [57, 58, 61, 62, 63] (s_I σ 0 0) b''.2.2.2 := by
            intro w hwr
            have hT3 := e5.pu (f := 6) (w := w) (e5.2.2.1.at6 hwr) ((Mf.sI (LI := [59, 60, 64]) (LA := []) (by decide)))
            obtain ⟨r, g4, σ4, f1, f2, f3, f4, f5, f6, f7, f8, f9⟩ := hT3.rs (T := T) (by rw [(Mf.sI (LI := [60]) (LA := []) (by decide)).Af (by decide), e7.Af (by decide)]; exact hs1) hT6
            have hu := e5.2.1.1.1
            have hN4 := f5.1.2.2.1
            have hM4 : Mf [60] [57, 58, 61, 62, 63] (s_I σ 0 0) σ4 := (e7.trans (Mf.sI (LI := [60]) (LA := []) (by decide)) (fun _ k => k) (by decide)).trans f8 (by decide) (fun _ k => k)
            have hF4 : Fr (fun q => q = v) g g4 := (e6.trans (Fr.pI (W := fun q => q = gz g) rfl) (fun q hq k => by omega)).trans f6 (fun q hq k => by
              rcases k with k | k | k | k
              · exact k
              · omega
              · omega
              · omega)
            have hv5 : gI g4 (gz g) 6 = m_I σ4 60 := hN4.2.2.1
            unfold X1_shift_j55 X4_shift_j54 X1_shift_j86 X4_shift_j80
            rw [e_wk hu, e_wk (by exact hu), f1, e_cb, e_wk f5.1.2.1.1.1, f2, e_ob, f4, e_cb, nI_1]
            by_cases q : bm < r
            · rw [if_pos q, if_pos q, e_wk f5.1.2.1.1.1, hv5]
              exact ⟨_, _, 0, 0, j - 1, by omega, rfl, rfl, rfl, rfl, t + 1, rfl, rfl, by omega, by omega, rfl, rfl, f5.1, hF4, hM4⟩
            · rw [if_neg q, if_neg q]
              exact ⟨_, _, 0, 0, j - 1, by omega, rfl, rfl, rfl, rfl, t + 1, rfl, rfl, by omega, by omega, rfl, rfl, f5.1, hF4, hM4⟩
          rw [if_neg hlt, if_neg hlt, e_dv (by decide), e_dv (by decide), e_dv (by decide), e_dv (by decide)]
          rcases par_l ⟨t, by omega⟩ with ⟨q1, q2, q3⟩ | ⟨q1, q2, q3, q4⟩
          · rw [if_pos q1, if_neg q2]
            exact Or.inl (key _ q3)
          · rw [if_neg q1, if_pos q2, q3]
            exact Or.inl (key _ q4)
        · have hlt : (48 : Int32) < nI t := nI_lt (a := 48) (b := t) (by omega) (by omega)
          rw [if_pos hlt, if_pos hlt]
          exact Or.inr ⟨_, _, 0, 0, rfl, rfl, rfl, rfl, rfl, rfl, e6, e7⟩)
      fu_ 49 (0, (-1), 0, g1) (0, (-1), 0, s_I σ 0 0) 0 0 ⟨rfl, rfl, 0, rfl, rfl, Nat.zero_le _, rfl, rfl, rfl, b2, b3.mono (fun _ _ k => k.elim), Mf.rf⟩ (by unfold fu_; omega)
    obtain ⟨e1, e2, e3⟩ := e
    obtain ⟨f1, f2, f3⟩ := e'
    simp only at m5 m6 m7 m8
    obtain ⟨rfl⟩ : dc = 0 := by omega
    obtain ⟨rfl⟩ : ds = 0 := by omega
    subst m5 m6
    have hav : ¬ a = gz g := by have := hp.1.1.1.2.2.1; omega
    have hrel := hp0.q m7 (nr_ag (r := 9)) (meqI (c := 60) hp0.2.2.1.2.1 m8 (by decide) (by decide))
    have hth : m_I (s_I f3 60 0) 0 = 0 := by rw [rI_sI, if_neg (by decide), m8.I (by decide)]; rfl
    rw [e_al, e_wk (by rw [K_nw, if_neg hav]; exact hp.1.1.1.1), R_nw, if_neg hav, hp.2.1.1, e_nn, b1, e_ca, m1, e_oa, bp_0, m2, e_ob]
    by_cases hwh : what = 0
    · rw [if_pos hwh, if_pos hwh]
      exact OpT.ok (dc := 4) (ds := 1811) rfl rfl hrel (by omega) (by omega) hth
    · rw [if_neg hwh, if_neg hwh]
      exact OpT.ok (dc := 4) (ds := 1811) rfl rfl hrel (by omega) (by omega) hth
end
section
/-! LAWS: slip, wrists, learn, cure (own work) -/
set_option maxRecDepth 100000
theorem op_slip {a o : Nat} {g : GS} {σ : MS} (hr : Rel a o g σ) (what : Int32) : OpT [(1, 1)] a o (X1_slip a what g) (X4_slip what σ) := by
  obtain ⟨ρ, sc, v, n, k, h, y, m, T, hp⟩ := hr
  have hp0 := hp.m (s0_eq (c := 0))
  unfold X1_slip X4_slip
  cases hw : wi_ what 0 1 with
  | false =>
    refine OpT.ex (e := 1) (q := gz g) (r := 0) (g' := g) (σ' := s_I (s_I σ 0 0) 0 1) (dc := 1) (ds := 6) ?_ ?_ (hp0.r s0_eq) (by omega) (by omega) (List.mem_cons_self)
    · rw [X1_oneOf_f hw, e_tcr, e_b0]
    · rw [X4_isWhat_f s0_0 hw, e_cb, if_pos rfl]
  | true =>
    rw [X1_oneOf_t hw, e_tcl, bp_0, X4_isWhat_t s0_0 hw, e_cb, if_neg nn01]
    obtain ⟨g1, b1, b2, b3, b4⟩ := newtake hp0
    obtain ⟨-, hs1, hT6⟩ := hp0.1
    have b2' := b2.pu (f := 4) (w := 0) (b2.2.2.1.at4 (by decide)) ((Mf.sI (LI := [59, 60, 64]) (LA := []) (by decide)))
    obtain ⟨e, e', dc, ds, m1, m2, m3, m4, m5, m6, m7, m8⟩ := la2_t (body := fun a1 : Int32 × Int32 × GS => X1_slip_b28 what (gz g) a1.1 a1.2.1 a1.2.2) (body' := fun a : Int32 × Int32 × MS => X4_slip_b25 what a.1 a.2.1 a.2.2)
      (I := fun j a1 b c d => c = 0 ∧ d = 0 ∧ ∃ t, gI a1.2.2 (gz g) 4 = nI t ∧ m_I b.2.2 59 = nI t ∧ t ≤ 31 ∧ j = 31 - t ∧ a1.1 = b.1 ∧ a1.2.1 = b.2.1 ∧ TW a1.2.2 (nr ρ g 9) a sc v (gz g) y (gz g + 1) (gz g + 2) (gz g + 3) 2 m n k h b.2.2 ∧ Fr (fun q => q = v) g a1.2.2 ∧ Mf [59] [57, 58, 61, 62, 63] (s_I σ 0 0) b.2.2)
      (Q := fun e e' c d => c = 0 ∧ d = 0 ∧ e.1 = e'.1 ∧ e.2.1 = e'.2.1 ∧ Fr (fun q => q = v) g e.2.2 ∧ Mf [59] [57, 58, 61, 62, 63] (s_I σ 0 0) e'.2.2)
      (by
        rintro j ⟨b, bm, g2⟩ ⟨c1, c2, σ2⟩ c d ⟨c0, d0, t, e1, e2, t1, t2, e3, e4, e5, e6, e7⟩
        simp only at e1 e2 e3 e4 e5 e6 e7 ⊢
        subst c0 d0 e3 e4
        unfold X1_slip_b28 X4_slip_b25
        rw [e_wk e5.2.1.1.1, e1, e2]
        by_cases ht : t ≤ 30
        · have hlt : ¬ (30 : Int32) < nI t := nI_nlt (b := t) (a := 30) ht (by omega)
          obtain ⟨r, g4, σ4, f1, f2, f3, f4, f5, f6, f7, f8, f9⟩ := e5.rs (T := T) (by rw [e7.Af (by decide)]; exact hs1) hT6
          have hM4 : Mf [59] [57, 58, 61, 62, 63] (s_I σ 0 0) σ4 := e7.trans f8 (by decide) (fun _ k => k)
          have hF4 : Fr (fun q => q = v) g g4 := e6.trans f6 (fun q hq k => by
            rcases k with k | k | k | k
            · exact k
            · omega
            · omega
            · omega)
          have hl4 : m_I σ4 59 = nI t := by rw [f8.I (by decide), e2]
          have hl4' : gI g4 (gz g) 4 = nI t := by rw [f5.1.2.2.1.1.1, hl4]
          have hti : (nI (t + 1)).toInt = ((t + 1 : Nat) : Int) := i_n (by omega)
          have hT5 := f5.1.pu (f := 4) (w := nI (t + 1)) (f5.1.2.2.1.at4 (by omega)) ((Mf.sI (LI := [59, 60, 64]) (LA := []) (by decide)))
          have hF5 : Fr (fun q => q = v) g (pI g4 (gz g) 4 (nI (t + 1))) := hF4.trans (Fr.pI (W := fun q => q = gz g) rfl) (fun q hq k => by omega)
          have hM5 : Mf [59] [57, 58, 61, 62, 63] (s_I σ 0 0) (s_I σ4 59 (nI (t + 1))) := hM4.trans (Mf.sI (LI := [59]) (LA := []) (by decide)) (fun _ k => k) (by decide)
          have key : ∀ q1 q2 : Int32, ∃ a' b'' dc dk m', m' < j ∧ (some (Sum.inl (q1, q2, pI g4 (gz g) 4 (nI (t + 1))), 0, 0) : Option (((Int32 × Int32 × GS) ⊕ (Int32 × Int32 × GS)) × Nat × Nat)) = some (.inl a', dc, dk) ∧ (some (Sum.inl (q1, q2, s_I σ4 59 (nI (t + 1)))) : Option ((Int32 × Int32 × MS) ⊕ (Int32 × Int32 × MS))) = some (.inl b'') ∧ dc + 0 = 0 ∧ dk + 0 = 0 ∧ ∃ t, gI a'.2.2 (gz g) 4 = nI t ∧ m_I b''.2.2 59 = nI t ∧ t ≤ 31 ∧ m' = 31 - t ∧ a'.1 = b''.1 ∧ a'.2.1 = b''.2.1 ∧ TW a'.2.2 (nr ρ g 9) a sc v (gz g) y (gz g + 1) (gz g + 2) (gz g + 3) 2 m n k h b''.2.2 ∧ Fr (fun q => q = v) g a'.2.2 ∧ Mf [59] [57, 58, 61, 62, 63] (s_I σ 0 0) b''.2.2 :=
            fun q1 q2 => ⟨_, _, 0, 0, j - 1, by omega, rfl, rfl, rfl, rfl, t + 1, by show gI (pI g4 (gz g) 4 (nI (t + 1))) (gz g) 4 = _; rw [I_pI, if_pos ⟨rfl, rfl⟩], by show m_I (s_I σ4 59 (nI (t + 1))) 59 = _; rw [rI_sI, if_pos rfl], by omega, by omega, rfl, rfl, hT5, hF5, hM5⟩
          have hu4 := f5.1.2.1.1.1
          rw [if_neg hlt, if_neg hlt, f1, e_cb, e_wk hu4, f2, e_ob, f4, e_cb]
          unfold X1_slip_j61 X4_slip_j54 X1_slip_j70 X4_slip_j62
          rw [e_wk hu4, e_wk hu4, hl4', hl4, nI_1]
          by_cases q : b = -1
          · rw [if_pos q, if_pos q]
            exact Or.inl (key _ _)
          · rw [if_neg q, if_neg q]
            by_cases q2 : r < bm
            · rw [if_pos q2, if_pos q2]
              exact Or.inl (key _ _)
            · rw [if_neg q2, if_neg q2]
              rw [e_wk hu4]
              exact Or.inl (key _ _)
        · have hlt : (30 : Int32) < nI t := nI_lt (a := 30) (b := t) (by omega) (by omega)
          rw [if_pos hlt, if_pos hlt]
          exact Or.inr ⟨_, _, 0, 0, rfl, rfl, rfl, rfl, rfl, rfl, e6, e7⟩)
      fu_ 31 ((-1), 0, pI g1 (gz g) 4 0) ((-1), 0, s_I (s_I σ 0 0) 59 0) 0 0 ⟨rfl, rfl, 0, by show gI (pI g1 (gz g) 4 0) (gz g) 4 = _; rw [I_pI, if_pos ⟨rfl, rfl⟩]; rfl, by show m_I (s_I _ 59 0) 59 = _; rw [rI_sI, if_pos rfl]; rfl, Nat.zero_le _, rfl, rfl, rfl, b2', (b3.mono (W' := fun q => q = v) (fun _ _ k => k.elim)).trans (Fr.pI (W := fun q => q = gz g) rfl) (fun q hq k => by omega), Mf.sI (by decide)⟩ (by unfold fu_; omega)
    obtain ⟨e1, e2, e3⟩ := e
    obtain ⟨f1, f2, f3⟩ := e'
    simp only at m5 m6 m7 m8
    obtain ⟨rfl⟩ : dc = 0 := by omega
    obtain ⟨rfl⟩ : ds = 0 := by omega
    subst m5 m6
    have hav : ¬ a = gz g := by have := hp.1.1.1.2.2.1; omega
    have hrel := hp0.q m7 (nr_ag (r := 9)) (meqI (c := 59) hp0.2.2.1.1 m8 (by decide) (by decide))
    have hth : m_I (s_I f3 59 0) 0 = 0 := by rw [rI_sI, if_neg (by decide), m8.I (by decide)]; rfl
    rw [e_al, e_wk (by rw [K_nw, if_neg hav]; exact hp.1.1.1.1), R_nw, if_neg hav, hp.2.1.1, e_nn, b1, e_ca, e_wk b2.2.1.1.1, m1, e_oa, bp_0, m2, e_ob]
    by_cases hwh : what = 0
    · rw [if_pos hwh, if_pos hwh]
      exact OpT.ok (dc := 4) (ds := 1811) rfl rfl hrel (by omega) (by omega) hth
    · rw [if_neg hwh, if_neg hwh]
      exact OpT.ok (dc := 4) (ds := 1811) rfl rfl hrel (by omega) (by omega) hth
theorem mf_back {σ σ4 : MS} {f : Nat} {w : Int32} (h : Mf [] [57, 58, 61, 62, 63] (s_A σ 53 f w) σ4) : Mf [] [57, 58, 61, 62, 63] σ (s_A σ4 53 f (m_A σ 53 f)) := by
  refine ⟨fun k hk => h.I hk, fun j hj i => ?_⟩
  rw [rA_sA]
  by_cases q : j = 53 ∧ i = f
  · rw [if_pos q, q.1, q.2]
  · rw [if_neg q, h.A hj, rA_sA, if_neg q]
/-- one number otherwise -/
theorem TW.sw {g : GS} {ρ : Nat → Nat} {a sc v u x sa ra oa m n k h T f f' : Nat} {σ : MS} {c w : Int32} (hT : TW g ρ a sc v u x sa ra oa 10 m n k h (s_A σ 53 f' c)) (hs : sm_ (m_A σ 9) n = nI T) (hT6 : T ≤ 600) (hk : (f = 0 ∧ f' = 0) ∨ (f = 1 ∧ f' = 1) ∨ (f = 2 ∧ f' = 2) ∨ (f = 3 ∧ f' = 3) ∨ (f = 4 ∧ f' = 5) ∨ (f = 5 ∧ f' = 4))
    (hw : (f' = 1 ∧ 0 ≤ w.toInt ∧ w.toInt ≤ 24) ∨ (f' = 2 ∧ 1 ≤ w.toInt ∧ w.toInt ≤ 90) ∨ (f' = 3 ∧ -30 ≤ w.toInt ∧ w.toInt ≤ 30) ∨ (f' = 5 ∧ -1 ≤ w.toInt ∧ w.toInt < h) ∨ (f' = 0 ∧ 1 ≤ w.toInt ∧ w.toInt ≤ 60) ∨ (f' = 4 ∧ 0 ≤ w.toInt ∧ w.toInt ≤ 200) ∨ (6 ≤ f' ∧ 12 ≤ w.toInt ∧ w.toInt ≤ 480)) (hf12 : f' < 12) :
    ∃ r g' σ', gK g x = 3 ∧ X11_run u (pI g x f w) = some (u, g') ∧ X11_sharp u g' = some r ∧ X4_sharpWith (nI f') w σ = some (r, σ') ∧ TW g' ρ a sc v u x sa ra oa 10 m n k h (s_A σ' 53 f' w) ∧ gK g' u = 10 ∧ Fr (fun q => tw_ v sa ra oa q ∨ q = x) g g' ∧ Mf [] [57, 58, 61, 62, 63] σ σ' := by
  have hT2 := hT.px hk (w := w) (hT.2.2.2.2.2.2.put hw)
  rw [sA_sA] at hT2
  have hx := hT.2.2.2.2.1.1
  obtain ⟨r, g4, σ4, f1, f2, f3, f4, f5, f6, f7, f8, f9⟩ := hT2.rs (T := T) (by rw [(Mf.sA (LI := []) (LA := [53]) (by decide)).Af (by decide)]; exact hs) hT6
  have hw4 : m_A σ4 53 f' = w := by rw [f8.A (by decide), rA_sA, if_pos ⟨rfl, rfl⟩]
  refine ⟨r, g4, s_A σ4 53 f' (m_A σ 53 f'), hx, f1, f2, ?_, ?_, f5.1.2.1.1.1, (Fr.pI (W := fun q => tw_ v sa ra oa q ∨ q = x) (Or.inr rfl)).trans f6 (fun _ _ k => Or.inl k), mf_back f8⟩
  · unfold X4_sharpWith
    rw [e_inN hf12 (by omega), e_inN hf12 (by omega), nI_clamp (by omega), f4, e_cb, e_inN hf12 (by omega)]
  · rw [sA_sA, sA_id hw4.symm]
    exact f5.1
theorem op_wrists {a o : Nat} {g : GS} {σ : MS} (hr : Rel a o g σ) : OpI a o (X1_wrists a g) (X4_wrists σ) := by
  obtain ⟨ρ, sc, v, n, k, h, y, m, T, hp⟩ := hr
  have hp0 := hp.m (s0_eq (c := 0))
  obtain ⟨-, hs1, hT6⟩ := hp0.1
  obtain ⟨g1, g2, ρ2, dc1, ds1, a1, a2, a3, a4, a5, a6, a7, a8, a9, a10⟩ := newtakec hp0
  obtain ⟨e, e', dc, ds, m1, m2, m3, m4, m5, m6, m7⟩ := la2_t (body := fun a1 : Int32 × Int32 × Int32 × GS => X1_wrists_b23 (gz g) a1.1 a1.2.1 a1.2.2.1 a1.2.2.2) (body' := fun a : Int32 × Int32 × Int32 × MS => X4_wrists_b11 a.1 a.2.1 a.2.2.1 a.2.2.2)
    (I := fun j a1 b c d => c = 0 ∧ d = 0 ∧ ∃ t, a1.2.2.1 = nI t ∧ b.2.2.1 = nI t ∧ 1 ≤ t ∧ t ≤ 91 ∧ j = 91 - t ∧ a1.1 = b.1 ∧ a1.2.1 = b.2.1 ∧ (∃ w, TW a1.2.2.2 ρ2 a sc v (gz g) (gz g + 1) (gz g1) (gz g1 + 1) (gz g1 + 2) 10 m n k h (s_A b.2.2.2 53 2 w)) ∧ Fr (fun q => q = v) g a1.2.2.2 ∧ Mf [] [57, 58, 61, 62, 63] (s_I σ 0 0) b.2.2.2)
    (Q := fun e e' c d => c = 0 ∧ d = 0 ∧ e.1 = e'.1 ∧ Fr (fun q => q = v) g e.2 ∧ Mf [] [57, 58, 61, 62, 63] (s_I σ 0 0) e'.2)
    (by
      rintro j ⟨b, bm, i1, g3⟩ ⟨c1, c2, i2, σ3⟩ c d ⟨c0, d0, t, e1, e2, t0, t1, t2, e3, e4, ⟨w, e5⟩, e6, e7⟩
      simp only at e1 e2 e3 e4 e5 e6 e7 ⊢
      subst c0 d0 e1 e2 e3 e4
      unfold X1_wrists_b23 X4_wrists_b11
      by_cases ht : t ≤ 90
      · have hlt : ¬ (90 : Int32) < nI t := nI_nlt (b := t) (a := 90) ht (by omega)
        have hti : (nI t).toInt = (t : Int) := i_n (by omega)
        obtain ⟨r, g4, σ4, f0, f1, f2, f3, f4, f5, f6, f7⟩ := e5.sw (T := T) (f := 2) (w := nI t) (by rw [e7.Af (by decide)]; exact hs1) hT6 (by omega) (by omega) (by omega)
        have hu := e5.2.1
        have hF4 : Fr (fun q => q = v) g g4 := e6.trans f6 (fun q hq k => by
          rcases k with (k | k | k | k) | k
          · exact k
          · omega
          · omega
          · omega
          · omega)
        have hM4 := e7.trans f7 (fun _ k => k) (fun _ k => k)
        rw [if_neg hlt, if_neg hlt, e_wk hu.1.1, hu.2.1.1, e_nn, e_wk f0, f1, e_cb, e_wk f5, f2, e_ob, show (2 : Int32) = nI 2 from rfl, f3, e_cb]
        unfold X1_wrists_j63 X4_wrists_j39
        rw [nI_1]
        by_cases q : bm < r
        · rw [if_pos q, if_pos q]
          exact Or.inl ⟨_, _, 0, 0, j - 1, by omega, rfl, rfl, rfl, rfl, t + 1, rfl, rfl, by omega, by omega, by omega, rfl, rfl, ⟨nI t, f4⟩, hF4, hM4⟩
        · rw [if_neg q, if_neg q]
          exact Or.inl ⟨_, _, 0, 0, j - 1, by omega, rfl, rfl, rfl, rfl, t + 1, rfl, rfl, by omega, by omega, by omega, rfl, rfl, ⟨nI t, f4⟩, hF4, hM4⟩
      · have hlt : (90 : Int32) < nI t := nI_lt (a := 90) (b := t) (by omega) (by omega)
        rw [if_pos hlt, if_pos hlt]
        exact Or.inr ⟨_, _, 0, 0, rfl, rfl, rfl, rfl, rfl, e6, e7⟩)
    fu_ 90 (0, (-1), 1, g2) (0, (-1), 1, s_I σ 0 0) 0 0 ⟨rfl, rfl, 1, rfl, rfl, Nat.le_refl _, by omega, rfl, rfl, rfl, ⟨m_A (s_I σ 0 0) 53 2, by rw [sA_id rfl]; exact a3⟩, a5.mono (fun _ _ k => k.elim), Mf.rf⟩ (by unfold fu_; omega)
  obtain ⟨e1, e2⟩ := e
  obtain ⟨f1, f2⟩ := e'
  simp only at m5 m6 m7
  obtain ⟨rfl⟩ : dc = 0 := by omega
  obtain ⟨rfl⟩ : ds = 0 := by omega
  subst m5
  have hC := hp.1.1
  have hav : ¬ a = gz g := by have := hC.1.2.2.1; omega
  have hyv : ¬ y = gz g := by have := hp.2.1.2.1.2.2.1; omega
  refine ⟨e1, e2, 3 + dc1 + 1, 1803 + ds1 + 8, f2, ?_, ?_, hp0.q m6 a6 (m7.eq (by decide) (by decide)), by omega, by omega⟩
  · unfold X1_wrists
    rw [e_al, e_wk (by rw [K_nw, if_neg hav]; exact hC.1.1), R_nw, if_neg hav, hp.2.1.1, e_nn, e_wk (by rw [K_nw, if_neg hyv]; exact hp.2.1.2.1.1), a1, e_ca, a2, e_ca, m1, e_oa, bp_0, e_b0, e_bp, e_bp]
  · unfold X4_wrists
    rw [m2, e_ob]
theorem learn_val {ey d : Int32} {t : Nat} (hd : d.toInt = (t : Int)) (ht : t ≤ 31) (heyr : -30 ≤ ey.toInt ∧ ey.toInt ≤ 30) (h0 : ey.toInt = 0 → t = 0) : (ey - d * sg_ ey).toInt = (if 0 < ey.toInt then ey.toInt - t else ey.toInt + t) ∧ (if ey ≤ 0 then ey + d else ey - d) = ey - d * sg_ ey := by
  unfold sg_
  simp only [i_lt, i_le, k_0]
  by_cases q1 : 0 < ey.toInt
  · rw [if_pos q1, if_pos q1, if_neg (show ¬ ey.toInt ≤ 0 by omega), Int32.mul_one]
    exact ⟨by rw [i_sub (by omega) (by omega), hd], rfl⟩
  · rw [if_neg q1, if_neg q1]
    by_cases q2 : ey.toInt < 0
    · rw [if_pos q2, if_pos (show ey.toInt ≤ 0 by omega), Int32.mul_neg, Int32.mul_one, Int32.sub_neg]
      exact ⟨by rw [i_add (by omega) (by omega), hd], rfl⟩
    · rw [if_neg q2, if_pos (show ey.toInt ≤ 0 by omega), Int32.mul_zero, Int32.sub_zero]
      have q6 := h0 (by omega)
      subst q6
      have q7 : d = 0 := by rw [i_eq, hd, k_0]; rfl
      refine ⟨by omega, ?_⟩
      rw [q7, Int32.add_zero]
theorem op_learn {a o : Nat} {g : GS} {σ : MS} (hr : Rel a o g σ) : OpI a o (X1_learn a g) (X4_learn σ) := by
  obtain ⟨ρ, sc, v, n, k, h, y, m, T, hp⟩ := hr
  have hp0 := hp.m (s0_eq (c := 0))
  obtain ⟨-, hs1, hT6⟩ := hp0.1
  obtain ⟨g1, g2, ρ2, dc1, ds1, a1, a2, a3, a4, a5, a6, a7, a8, a9, a10⟩ := newtakec hp0
  obtain ⟨ey, hey⟩ : ∃ ey, ey = m_A (s_I σ 0 0) 53 3 := ⟨_, rfl⟩
  have heyr : -30 ≤ ey.toInt ∧ ey.toInt ≤ 30 := by rw [hey]; exact hp0.2.1.2.2.2.2.2.2.1
  have hC := hp.1.1
  have hva : ¬ a = v := by
    intro q
    have q1 := hp.1.1.1.1
    rw [q, hp.1.1.2.1.1] at q1
    omega
  have hyv' : ¬ y = v := by
    intro q
    have q1 := hp.2.1.2.1.1
    rw [q, hp.1.1.2.1.1] at q1
    omega
  have hsg := sg_l (v := ey) (by omega)
  have hoff := off_l (x := ey) (y := 0) (by omega) (by rw [k_0]; omega)
  have hab : (jabs_ ey).toInt = if 0 ≤ ey.toInt then ey.toInt else 0 - ey.toInt := by
    have h1 := hoff.2
    rw [Int32.sub_zero, k_0] at h1
    rw [h1]
    split <;> omega
  obtain ⟨e, e', dc, ds, m1, m2, m3, m4, m5, m6, m7⟩ := la2_t (body := fun a1 : Int32 × Int32 × Int32 × GS => X1_learn_b23 a (gz g) a1.1 a1.2.1 a1.2.2.1 a1.2.2.2) (body' := fun a : Int32 × Int32 × Int32 × MS => X4_learn_b19 ey a.1 a.2.1 a.2.2.1 a.2.2.2)
    (I := fun j a1 b c d => c = 0 ∧ d = 0 ∧ ∃ t, a1.2.2.1 = nI t ∧ b.2.2.1 = nI t ∧ t ≤ 31 ∧ j = 31 - t ∧ a1.1 = b.1 ∧ a1.2.1 = b.2.1 ∧ (∃ w, TW a1.2.2.2 ρ2 a sc v (gz g) (gz g + 1) (gz g1) (gz g1 + 1) (gz g1 + 2) 10 m n k h (s_A b.2.2.2 53 3 w)) ∧ Fr (fun q => q = v) g a1.2.2.2 ∧ Mf [] [57, 58, 61, 62, 63] (s_I σ 0 0) b.2.2.2)
    (Q := fun e e' c d => c = 0 ∧ d = 0 ∧ e.1 = e'.1 ∧ Fr (fun q => q = v) g e.2 ∧ Mf [] [57, 58, 61, 62, 63] (s_I σ 0 0) e'.2)
    (by
      rintro j ⟨b, bm, i1, g3⟩ ⟨c1, c2, i2, σ3⟩ c d ⟨c0, d0, t, e1, e2, t1, t2, e3, e4, ⟨w, e5⟩, e6, e7⟩
      simp only at e1 e2 e3 e4 e5 e6 e7 ⊢
      subst c0 d0 e1 e2 e3 e4
      have ha3 : gK g3 a = 1 := by rw [e6.K hC.1.2.2.1, hC.1.1]
      have hay : gR g3 a 1 = y + 1 := by rw [e6.R hC.1.2.2.1 hva, hp.2.1.1]
      have hky : gK g3 y = 3 := by rw [e6.K hp.2.1.2.1.2.2.1, hp.2.1.2.1.1]
      have hey3 : gI g3 y 3 = ey := by rw [e6.I hp.2.1.2.1.2.2.1 hyv', hp0.2.1.2.1.2.2.2.1.2.2.2.1, hey]
      have hti : (nI t).toInt = (t : Int) := i_n (by omega)
      unfold X1_learn_b23 X4_learn_b19
      rw [e_wk ha3, hay, e_nn, e_wk hky, hey3, off0_l, e_ob]
      by_cases ht : jabs_ ey < nI t
      · rw [if_pos ht, if_pos ht]
        exact Or.inr ⟨_, _, 0, 0, rfl, rfl, rfl, rfl, rfl, e6, e7⟩
      · have ht' := ht
        rw [i_lt, hab, hti] at ht'
        have ht30 : t ≤ 30 := by
          split at ht'
          · omega
          · omega
        -- the value
        obtain ⟨wv, hwv⟩ : ∃ wv, wv = ey - nI t * sg_ ey := ⟨_, rfl⟩
        have hval := learn_val (ey := ey) (d := nI t) hti t1 heyr (fun q => by rw [if_pos (by omega)] at ht'; omega)
        rw [← hwv] at hval
        have hwr : -30 ≤ wv.toInt ∧ wv.toInt ≤ 30 := by
          have q := hval.1
          split at ht' <;> split at q <;> omega
        obtain ⟨r, g4, σ4, f0, f1, f2, f3, f4, f5, f6, f7⟩ := e5.sw (T := T) (f := 3) (w := wv) (by rw [e7.Af (by decide)]; exact hs1) hT6 (by omega) (by omega) (by omega)
        have hu := e5.2.1
        have hF4 : Fr (fun q => q = v) g g4 := e6.trans f6 (fun q hq k => by
          rcases k with (k | k | k | k) | k
          · exact k
          · omega
          · omega
          · omega
          · omega)
        have hM4 := e7.trans f7 (fun _ k => k) (fun _ k => k)
        rw [if_neg ht, if_neg ht, e_wk hu.1.1, hu.2.1.1, e_nn, e_nn, e_wk hky, e_nn, e_wk hky, hey3, hsg, e_ob, e_wk f0, ← hwv, f1, e_cb, e_wk f5, f2, e_ob]
        have hmod : (if ey ≤ 0 then X4_learn_j46 ey b bm (nI t) 3 (ey + nI t) σ3 else X4_learn_j46 ey b bm (nI t) 3 (ey - nI t) σ3) = X4_learn_j46 ey b bm (nI t) (nI 3) wv σ3 := by
          rw [← hval.2]
          split <;> rfl
        rw [hmod]
        unfold X4_learn_j46 X1_learn_j90 X4_learn_j66
        rw [f3, e_cb, nI_1]
        by_cases q : bm < r
        · rw [if_pos q, if_pos q]
          exact Or.inl ⟨_, _, 0, 0, j - 1, by omega, rfl, rfl, rfl, rfl, t + 1, rfl, rfl, by omega, by omega, rfl, rfl, ⟨wv, f4⟩, hF4, hM4⟩
        · rw [if_neg q, if_neg q]
          exact Or.inl ⟨_, _, 0, 0, j - 1, by omega, rfl, rfl, rfl, rfl, t + 1, rfl, rfl, by omega, by omega, rfl, rfl, ⟨wv, f4⟩, hF4, hM4⟩)
    fu_ 31 (0, (-1), 0, g2) (0, (-1), 0, s_I σ 0 0) 0 0 ⟨rfl, rfl, 0, rfl, rfl, Nat.zero_le _, rfl, rfl, rfl, ⟨m_A (s_I σ 0 0) 53 3, by rw [sA_id rfl]; exact a3⟩, a5.mono (fun _ _ k => k.elim), Mf.rf⟩ (by unfold fu_; omega)
  obtain ⟨e1, e2⟩ := e
  obtain ⟨f1, f2⟩ := e'
  simp only at m5 m6 m7
  obtain ⟨rfl⟩ : dc = 0 := by omega
  obtain ⟨rfl⟩ : ds = 0 := by omega
  subst m5
  have hav : ¬ a = gz g := by have := hC.1.2.2.1; omega
  have hyv : ¬ y = gz g := by have := hp.2.1.2.1.2.2.1; omega
  refine ⟨e1, e2, 3 + dc1 + 1, 1803 + ds1 + 8, f2, ?_, ?_, hp0.q m6 a6 (m7.eq (by decide) (by decide)), by omega, by omega⟩
  · unfold X1_learn
    rw [e_al, e_wk (by rw [K_nw, if_neg hav]; exact hC.1.1), R_nw, if_neg hav, hp.2.1.1, e_nn, e_wk (by rw [K_nw, if_neg hyv]; exact hp.2.1.2.1.1), a1, e_ca, a2, e_ca, m1, e_oa, bp_0, e_b0, e_bp, e_bp]
  · unfold X4_learn
    rw [e_i3 (by omega) (by omega), cl_3, show m_A σ 53 3 = ey from hey.symm, m2, e_ob]
end
section
/-! LAWS: cure, best, lags, takes, fits (own work) -/
set_option maxRecDepth 100000
/-- a copy of the settings with one number otherwise, and a take over it -/
theorem sharpBy_l {a o sc v n k h x m T : Nat} {g : GS} {ρ : Nat → Nat} {σ : MS} (hp : RelP a o sc v n k h x m T g ρ σ) {f f' : Nat} {w : Int32} (hk : (f = 0 ∧ f' = 0) ∨ (f = 1 ∧ f' = 1) ∨ (f = 2 ∧ f' = 2) ∨ (f = 3 ∧ f' = 3) ∨ (f = 4 ∧ f' = 5) ∨ (f = 5 ∧ f' = 4))
    (hw : (f' = 1 ∧ 0 ≤ w.toInt ∧ w.toInt ≤ 24) ∨ (f' = 2 ∧ 1 ≤ w.toInt ∧ w.toInt ≤ 90) ∨ (f' = 3 ∧ -30 ≤ w.toInt ∧ w.toInt ≤ 30) ∨ (f' = 5 ∧ -1 ≤ w.toInt ∧ w.toInt < h) ∨ (f' = 0 ∧ 1 ≤ w.toInt ∧ w.toInt ≤ 60) ∨ (f' = 4 ∧ 0 ≤ w.toInt ∧ w.toInt ≤ 200) ∨ (6 ≤ f' ∧ 12 ≤ w.toInt ∧ w.toInt ≤ 480)) (hf12 : f' < 12) :
    ∃ g1 dc1 ds1 r g2 ρ2 dc ds σ2, X3_copy x g = some ((gz g, g1), dc1, ds1) ∧ gK g1 (gz g) = 3 ∧ gK g1 a = 1 ∧ X1_sharpBy a (gz g) (pI g1 (gz g) f w) = some ((r, g2), dc, ds) ∧ X4_sharpWith (nI f') w σ = some (r, σ2) ∧ Fr (fun q => q = v) g g2 ∧ Ag g ρ ρ2 ∧ Mf [] [57, 58, 61, 62, 63] σ σ2 ∧ dc1 + dc ≤ 12 ∧ ds1 + ds ≤ 1901 := by
  obtain ⟨⟨hC, hs1, hT6⟩, ⟨n1, n2, ⟨n3, n3'⟩, n4⟩, hZ, -, -, -, -, -, -, -, hE, -⟩ := hp
  obtain ⟨g1, dc1, ds1, a1, a2, a3, a4, a5, a6⟩ := X3_copy_l hE.1 n2 n3' 10
  have ha := hC.1.2.2.1
  have hA1 : Ag g ρ (nr ρ g 10) := nr_ag
  obtain ⟨g1', hg1'⟩ : ∃ g1', g1' = pI g1 (gz g) f w := ⟨_, rfl⟩
  have F1 : Fr no_ g g1' := by rw [hg1']; exact a3.trans (Fr.pI (W := fun q => q = gz g) rfl) (fun q hq k => by omega)
  have z1 : gz g1' = gz g1 := by rw [hg1']; rfl
  obtain ⟨row, hrow⟩ : ∃ row : Nat → Int32, row = fun i => if i = f' then w else m_A σ 53 i := ⟨_, rfl⟩
  have a2' : SetP g1' (nr ρ g 10) 10 (gz g) m row := by rw [hg1', hrow]; exact a2.put hk
  -- the take
  obtain ⟨g3, hg3⟩ : ∃ g3, g3 = nw_ g1' 10 8 := ⟨_, rfl⟩
  have F3 : Fr no_ g1' g3 := by rw [hg3]; exact Fr.nw
  have F13 : Fr no_ g g3 := F1.trans F3 (fun _ _ k => k)
  have hA3 : Ag g1' (nr ρ g 10) (nr (nr ρ g 10) g1' 9) := nr_ag
  have hA13 : Ag g ρ (nr (nr ρ g 10) g1' 9) := hA1.trans hA3 F1.z
  have hM : Mf [] [53] σ (s_A σ 53 f' w) := Mf.sA (by decide)
  have hrow' : m_A (s_A σ 53 f' w) 53 = row := by
    rw [hrow]
    funext i
    rw [rA_sA]
    by_cases q : i = f'
    · rw [if_pos ⟨rfl, q⟩, if_pos q]
    · rw [if_neg (by rintro ⟨-, k⟩; exact q k), if_neg q]
  have hC3 : CW g3 (nr (nr ρ g 10) g1' 9) a sc v n k h (s_A σ 53 f' w) := hC.to F13 hA13 (fun _ _ _ k => k) ⟨F13.R ha (fun k => k) 0, F13.R ha (fun k => k) 2⟩ hM (by decide) (by decide)
  have hR' : RowOK row m h := by rw [hrow]; exact n4.put hw
  have hZ' : ZeP (s_A σ 53 f' w) := hZ
  obtain ⟨g4, b1, b2, b3, b4⟩ := tkinit (u := gz g1') (s := gz g) (r := 10) (m := m) hC3 ⟨⟨by omega, by omega⟩, by rw [hrow']; exact a2'.to F3 hA3 (fun _ _ _ k => k), ⟨n3, n3'⟩, by rw [hrow']; exact hR'⟩ ⟨by rw [hg3, K_nw, if_pos rfl], nr_ge (Nat.le_refl _), by rw [hg3, z_nw]; omega⟩ (TnP0 hZ' (by rw [hg3, I_nw, if_pos rfl]) (by rw [hg3, I_nw, if_pos rfl]) (by rw [hg3, I_nw, if_pos rfl]))
  obtain ⟨r, g5, σ5, f1, f2, f3, f4, f5, f6, f7, f8, f9⟩ := b2.rs (T := T) (by rw [hM.Af (by decide)]; exact hs1) hT6
  have F4 : Fr no_ g g4 := F13.trans b3 (fun q hq k => by have := F1.z; omega)
  have z3 : gz g3 = gz g1' + 1 := by rw [hg3]; rfl
  have F5 : Fr (fun q => q = v) g g5 := (F4.mono (W' := fun q => q = v) (fun _ _ k => k.elim)).trans f6 (fun q hq k => by
    have := F1.z
    rcases k with k | k | k | k
    · exact k
    · omega
    · omega
    · omega)
  refine ⟨g1, dc1, ds1, r, g5, nr (nr (nr ρ g 10) g1' 9) g3 9, 4, 1811, s_A σ5 53 f' (m_A σ 53 f'), a1, a2.1, ?_, ?_, ?_, F5, hA13.trans nr_ag F13.z, mf_back f8, by omega, by omega⟩
  · rw [a3.K ha, hC.1.1]
  · unfold X1_sharpBy
    rw [← hg1', e_al, ← hg3, b1, e_ca, e_wk b2.2.1.1.1, f1, e_cb, e_wk f5.1.2.1.1.1, f2, e_ob]
    rfl
  · unfold X4_sharpWith
    rw [e_inN hf12 (by omega), e_inN hf12 (by omega), nI_clamp (by omega), f4, e_cb, e_inN hf12 (by omega)]
theorem op_cure {a o : Nat} {g : GS} {σ : MS} (hr : Rel a o g σ) : OpI a o (X1_cure a g) (X4_cure σ) := by
  obtain ⟨ρ, sc, v, n, k, h, y, m, T, hp⟩ := hr
  have hp0 := hp.m (s0_eq (c := 0))
  obtain ⟨g', σ', b1, b2, b3, b4, b5, b6⟩ := take_l hp0
  have hx := b3.x
  have hsh := X11_sharp_l b3.of hx.1 hx.2.1
  rw [hx.2.2.1] at hsh
  have hts : X4_takesSharp (s_I σ 0 0) = some (cnt_ (m_A σ' 63) (m_A σ' 53 0) T, σ') := by
    unfold X4_takesSharp
    rw [b2, e_ob, X4_sharpMany_l b3.la, e_ob]
  have hva : a ≠ v := by
    intro q
    have h1 := hp.1.1.1.1
    rw [q, hp.1.1.2.1.1] at h1
    omega
  have ha := hp.1.1.1.2.2.1
  obtain ⟨e, e', dc, ds, m1, m2, m3, m4, m5, ⟨ρe, m6⟩, m7⟩ := la2_t (body := fun a1 : Int32 × Int32 × Int32 × GS => X1_cure_b12 a a1.1 a1.2.1 a1.2.2.1 a1.2.2.2) (body' := fun a : Int32 × Int32 × Int32 × MS => X4_cure_b14 a.1 a.2.1 a.2.2.1 a.2.2.2)
    (I := fun j a1 b c d => ∃ t, a1.2.2.1 = nI t ∧ b.2.2.1 = nI t ∧ t ≤ 3 ∧ j = 3 - t ∧ c ≤ 12 * t ∧ d ≤ 1901 * t ∧ a1.1 = b.1 ∧ a1.2.1 = b.2.1 ∧ (∃ ρ1, RelP a o sc v n k h y m T a1.2.2.2 ρ1 b.2.2.2) ∧ Mf [] [57, 58, 61, 62, 63] (s_I σ 0 0) b.2.2.2)
    (Q := fun e e' c d => c ≤ 36 ∧ d ≤ 5703 ∧ e.1 = e'.1 ∧ (∃ ρ1, RelP a o sc v n k h y m T e.2 ρ1 e'.2) ∧ Mf [] [57, 58, 61, 62, 63] (s_I σ 0 0) e'.2)
    (by
      rintro j ⟨b, bm, i1, g2⟩ ⟨c1, c2, i2, σ2⟩ c d ⟨t, e1, e2, t1, t2, c0, d0, e3, e4, ⟨ρ1, e5⟩, e6⟩
      simp only at e1 e2 e3 e4 e5 e6 ⊢
      subst e1 e2 e3 e4
      unfold X1_cure_b12 X4_cure_b14
      have key : ∀ (f f' : Nat) (w : Int32), t < 3 → ((f = 0 ∧ f' = 0) ∨ (f = 1 ∧ f' = 1) ∨ (f = 2 ∧ f' = 2) ∨ (f = 3 ∧ f' = 3) ∨ (f = 4 ∧ f' = 5) ∨ (f = 5 ∧ f' = 4)) → ((f' = 1 ∧ 0 ≤ w.toInt ∧ w.toInt ≤ 24) ∨ (f' = 2 ∧ 1 ≤ w.toInt ∧ w.toInt ≤ 90) ∨ (f' = 3 ∧ -30 ≤ w.toInt ∧ w.toInt ≤ 30) ∨ (f' = 5 ∧ -1 ≤ w.toInt ∧ w.toInt < h) ∨ (f' = 0 ∧ 1 ≤ w.toInt ∧ w.toInt ≤ 60) ∨ (f' = 4 ∧ 0 ≤ w.toInt ∧ w.toInt ≤ 200) ∨ (6 ≤ f' ∧ 12 ≤ w.toInt ∧ w.toInt ≤ 480)) → f' < 12 →
          ∃ a' b'' dc dk m', m' < j ∧ (ca_ (X3_copy y g2) fun r17 g16 => wk_ g16 r17 3 <| X1_cure_j60 a b bm (nI t) r17 (pI g16 r17 f w)) = some (.inl a', dc, dk) ∧ X4_cure_j49 b bm (nI t) (nI f') w σ2 = some (.inl b'') ∧ ∃ t, a'.2.2.1 = nI t ∧ b''.2.2.1 = nI t ∧ t ≤ 3 ∧ m' = 3 - t ∧ dc + c ≤ 12 * t ∧ dk + d ≤ 1901 * t ∧ a'.1 = b''.1 ∧ a'.2.1 = b''.2.1 ∧ (∃ ρ1, RelP a o sc v n k h y m T a'.2.2.2 ρ1 b''.2.2.2) ∧ Mf [] [57, 58, 61, 62, 63] (s_I σ 0 0) b''.2.2.2 := by
        intro f f' w ht hk hw hf
        obtain ⟨g3, dc1, ds1, r, g4, ρ2, dc, ds, σ4, q1, q2, q3, q4, q5, q6, q7, q8, q9, q10⟩ := sharpBy_l e5 hk hw hf
        have hR4 : RelP a o sc v n k h y m T g4 ρ2 σ4 := by
          refine e5.to q6 q7 (fun q _ k => by rw [k]; exact Or.inr (Or.inl e5.1.1.2.1.2.2.1)) (fun i => q6.R e5.1.1.1.2.2.1 hva i) (fun i _ => q6.I e5.1.1.1.2.2.1 hva i) (q8.eq (by decide) (by decide))
        have hM4 := e6.trans q8 (fun _ k => k) (fun _ k => k)
        unfold X1_cure_j60 X4_cure_j49 X1_cure_j82 X4_cure_j68
        rw [q1, e_ca, e_wk q2, e_wk (by exact q3), q4, e_ca, q5, e_cb, nI_1]
        by_cases q : bm < r
        · rw [if_pos q, if_pos q, e_b0, e_bp]
          exact ⟨_, _, _, _, j - 1, by omega, rfl, rfl, t + 1, rfl, rfl, by omega, by omega, by omega, by omega, rfl, rfl, ⟨ρ2, hR4⟩, hM4⟩
        · rw [if_neg q, if_neg q, e_b0, e_bp]
          exact ⟨_, _, _, _, j - 1, by omega, rfl, rfl, t + 1, rfl, rfl, by omega, by omega, by omega, by omega, rfl, rfl, ⟨ρ2, hR4⟩, hM4⟩
      have hwk : gK g2 a = 1 ∧ gR g2 a 1 = y + 1 ∧ gK g2 y = 3 := ⟨e5.1.1.1.1, e5.2.1.1, e5.2.1.2.1.1⟩
      by_cases ht : t < 3
      · have hlt : ¬ (3 : Int32) ≤ nI t := nI_ge (b := 3) (a := t) ht (by omega)
        rw [if_neg hlt, if_neg hlt, e_wk hwk.1, hwk.2.1, e_nn, e_wk hwk.2.2]
        unfold X4_cure_j38
        match t, ht with
        | 0, ht =>
          simp only [show (nI 0 = 0) = True from eq_true rfl, show (nI 0 = 2) = False from eq_false (by decide), if_true, if_false]
          exact Or.inl (key 3 3 0 ht (by omega) (Or.inr (Or.inr (Or.inl ⟨rfl, by decide, by decide⟩))) (by omega))
        | 1, ht =>
          simp only [show (nI 1 = 0) = False from eq_false (by decide), show (nI 1 = 1) = True from eq_true rfl, show (nI 1 = 2) = False from eq_false (by decide), if_true, if_false]
          exact Or.inl (key 1 1 0 ht (by omega) (Or.inl ⟨rfl, by decide, by decide⟩) (by omega))
        | 2, ht =>
          simp only [show (nI 2 = 0) = False from eq_false (by decide), show (nI 2 = 1) = False from eq_false (by decide), show (nI 2 = 2) = True from eq_true rfl, if_true, if_false]
          exact Or.inl (key 2 2 90 ht (by omega) (Or.inr (Or.inl ⟨rfl, by decide, by decide⟩)) (by omega))
      · have hlt : (3 : Int32) ≤ nI t := nI_le (a := 3) (b := t) (by omega) (by omega)
        rw [if_pos hlt, if_pos hlt]
        exact Or.inr ⟨_, _, 0, 0, rfl, rfl, by omega, by omega, rfl, ⟨ρ1, e5⟩, e6⟩)
    fu_ 3 ((-1), cnt_ (m_A σ' 63) (m_A σ' 53 0) T, 0, g') ((-1), cnt_ (m_A σ' 63) (m_A σ' 53 0) T, 0, σ') 0 0 ⟨0, rfl, rfl, by omega, rfl, by omega, by omega, rfl, rfl, ⟨nr ρ g 9, hp0.to b4 nr_ag (fun q _ k => by rw [k]; exact Or.inr (Or.inl hp.1.1.2.1.2.2.1)) (fun i => b4.R ha hva i) (fun i _ => b4.I ha hva i) (b6.eq (by decide) (by decide))⟩, b6⟩ (by unfold fu_; omega)
  obtain ⟨e1, e2⟩ := e
  obtain ⟨f1, f2⟩ := e'
  simp only at m5 m6 m7
  subst m5
  refine ⟨e1, e2, dc + 4, ds + 1811, f2, ?_, ?_, ⟨ρe, sc, v, n, k, h, y, m, T, m6⟩, by omega, by omega⟩
  · unfold X1_cure
    rw [e_wk hp.1.1.1.1, b1, e_ca, e_wk hx.2.2.2.1, hsh, e_ob, m1, e_oa, e_b0, e_bp]
  · unfold X4_cure
    rw [hts, e_cb, m2, e_ob]
theorem op_best {a o : Nat} {g : GS} {σ : MS} (hr : Rel a o g σ) (what : Int32) : OpT [(1, 1)] a o (X1_best a what g) (X4_best what σ) := by
  obtain ⟨ρ, sc, v, n, k, h, y, m, T, hp⟩ := hr
  have hp0 := hp.m (s0_eq (c := 0))
  obtain ⟨-, hs1, hT6⟩ := hp0.1
  unfold X1_best X4_best
  cases hw : wi_ what 0 3 with
  | false =>
    refine OpT.ex (e := 1) (q := gz g) (r := 0) (g' := g) (σ' := s_I (s_I σ 0 0) 0 1) (dc := 1) (ds := 6) ?_ ?_ (hp0.r s0_eq) (by omega) (by omega) (List.mem_cons_self)
    · rw [X1_oneOf_f hw, e_tcr, e_b0]
    · rw [X4_isWhat_f s0_0 hw, e_cb, if_pos rfl]
  | true =>
    rw [X1_oneOf_t hw, e_tcl, bp_0, X4_isWhat_t s0_0 hw, e_cb, if_neg nn01]
    obtain ⟨g1, g2, ρ2, dc1, ds1, a1, a2, a3, a4, a5, a6, a7, a8, a9, a10⟩ := newtakec hp0
    have hC := hp0.1.1
    have h5 : m_I (s_I σ 0 0) 5 = nI h := hC.2.2.2.2.1.2.2.1
    have h4 : h ≤ 4 := hC.2.2.2.2.1.2.2.2
    obtain ⟨l2, xs2, q21, q22, q23, -⟩ := hC.2.2.2.2.2.1.2.2
    have hscl := hC.2.2.2.1.2.2.1
    have hva : ¬ a = v := by
      intro q
      have q1 := hp.1.1.1.1
      rw [q, hp.1.1.2.1.1] at q1
      omega
    have hsv : ¬ sc = v := by
      intro q
      have q1 := hC.2.2.2.1.1
      rw [q, hp.1.1.2.1.1] at q1
      omega
    obtain ⟨was, hwas⟩ : ∃ was, was = m_A (s_I σ 0 0) 53 5 := ⟨_, rfl⟩
    obtain ⟨e, e', dc, ds, m1, m2, m3, m4, m5, m6, m7, m8, m9⟩ := la2_t (body := fun a1 : Int32 × Int32 × Int32 × GS => X1_best_b29 a what (gz g) a1.1 a1.2.1 a1.2.2.1 a1.2.2.2) (body' := fun a : Int32 × Int32 × Int32 × Int32 × Int32 × MS => X4_best_b37 what was a.1 a.2.1 a.2.2.1 a.2.2.2.1 a.2.2.2.2.1 a.2.2.2.2.2)
      (I := fun j a1 b c d => c = 0 ∧ d = 0 ∧ ∃ t, a1.2.2.1 = nI t ∧ b.2.2.2.2.1 = nI t ∧ t ≤ h ∧ j = h - t ∧ a1.1 = (if 2 ≤ what then b.2.2.1 else b.1) ∧ a1.2.1 = (if 2 ≤ what then b.2.2.2.1 else b.2.1) ∧ (b.1 = -1 ↔ t = 0) ∧ (b.2.2.1 = -1 ↔ t = 0) ∧ TW a1.2.2.2 ρ2 a sc v (gz g) (gz g + 1) (gz g1) (gz g1 + 1) (gz g1 + 2) 10 m n k h b.2.2.2.2.2 ∧ Fr (fun q => q = v) g a1.2.2.2 ∧ Mf [] [53, 57, 58, 61, 62, 63] (s_I σ 0 0) b.2.2.2.2.2 ∧ ∀ i, i ≠ 5 → m_A b.2.2.2.2.2 53 i = m_A (s_I σ 0 0) 53 i)
      (Q := fun e e' c d => c = 0 ∧ d = 0 ∧ e.1 = (if 2 ≤ what then e'.2.2.1 else e'.1) ∧ e.2.1 = (if 2 ≤ what then e'.2.2.2.1 else e'.2.1) ∧ Fr (fun q => q = v) g e.2.2 ∧ Mf [] [53, 57, 58, 61, 62, 63] (s_I σ 0 0) e'.2.2.2.2 ∧ ∀ i, i ≠ 5 → m_A e'.2.2.2.2 53 i = m_A (s_I σ 0 0) 53 i)
      (by
        rintro j ⟨b, bm, i1, g3⟩ ⟨c1, c2, c3, c4, i2, σ3⟩ c d ⟨c0, d0, t, e1, e2, t1, t2, e3, e4, u1, u2, e5, e6, e7, e8⟩
        simp only at e1 e2 e3 e4 u1 u2 e5 e6 e7 e8 ⊢
        subst c0 d0 e1 e2
        have ha3 : gK g3 a = 1 := e5.1.1.1
        have has : gR g3 a 0 = sc + 1 := e5.1.1.2.2.2.1
        have hks : gK g3 sc = 2 := e5.1.2.2.2.1.1
        have hl3 : gR g3 sc 2 = l2 + 1 := by rw [e6.R hscl hsv, q21]
        have hL3 : LiP g3 ρ 0 l2 xs2 := q22.to e6 Ag.rf (fun q _ k1 k2 => by rw [k2, hC.2.1.2.2.1] at k1; omega)
        unfold X1_best_b29 X4_best_b37
        rw [e_wk ha3, has, e_nn, e_wk hks, hl3, e_nn, e_wk hL3.K, J2_size_l hL3, e_ob, q23, e7.I (by decide), h5]
        by_cases ht : t < h
        · have hlt : ¬ nI h ≤ nI t := nI_ge ht (by omega)
          have hti : (nI t).toInt = (t : Int) := i_n (by omega)
          have hT2 := e5.px (f := 4) (f' := 5) (w := nI t) (by omega) (e5.2.2.2.2.2.2.put (by omega))
          obtain ⟨r, g4, σ4, f1, f2, f3, f4, f5, f6, f7, f8, f9⟩ := hT2.rs (T := T) (by rw [(Mf.sA (LI := []) (LA := [53]) (by decide)).Af (by decide), e7.Af (by decide)]; exact hs1) hT6
          have hx := f5.x
          have hwc := X11_worst_l f5.of
          have hwm := X4_mostOff_l f5.la
          obtain ⟨wo, hwo⟩ : ∃ wo, wo = it_ (wF (m_A σ4 63)) 0 (T + 1) := ⟨_, rfl⟩
          rw [← hwo] at hwc hwm
          have hF4 : Fr (fun q => q = v) g g4 := (e6.trans (Fr.pI (W := fun q => q = gz g + 1) rfl) (fun q hq k => by omega)).trans f6 (fun q hq k => by
            rcases k with k | k | k | k
            · exact k
            · omega
            · omega
            · omega)
          have hM4 : Mf [] [53, 57, 58, 61, 62, 63] (s_I σ 0 0) σ4 := (e7.trans (Mf.sA (LI := []) (LA := [53]) (by decide)) (fun _ k => k) (by decide)).trans f8 (fun _ k => k) (by decide)
          have hrow4 : ∀ i, i ≠ 5 → m_A σ4 53 i = m_A (s_I σ 0 0) 53 i := fun i hi => by rw [f8.A (by decide), rA_sA, if_neg (by rintro ⟨-, k⟩; exact hi k), e8 i hi]
          have htn : nI t ≠ -1 := by rw [Ne, i_eq, hti, k_n1]; omega
          have hT4 := f5.1
          -- the two next states agree
          have step : ∀ (q1 q2 : Int32) (p1 p2 p3 p4 : Int32), q1 = (if 2 ≤ what then p3 else p1) → q2 = (if 2 ≤ what then p4 else p2) → p1 ≠ -1 → p3 ≠ -1 →
              ∃ a' b'' dc dk m', m' < j ∧ (some (Sum.inl (q1, q2, nI t + 1, g4), 0, 0) : Option (((Int32 × Int32 × Int32 × GS) ⊕ (Int32 × Int32 × GS)) × Nat × Nat)) = some (.inl a', dc, dk) ∧ (some (Sum.inl (p1, p2, p3, p4, nI t + 1, σ4)) : Option ((Int32 × Int32 × Int32 × Int32 × Int32 × MS) ⊕ (Int32 × Int32 × Int32 × Int32 × MS))) = some (.inl b'') ∧ dc + 0 = 0 ∧ dk + 0 = 0 ∧ ∃ t, a'.2.2.1 = nI t ∧ b''.2.2.2.2.1 = nI t ∧ t ≤ h ∧ m' = h - t ∧ a'.1 = (if 2 ≤ what then b''.2.2.1 else b''.1) ∧ a'.2.1 = (if 2 ≤ what then b''.2.2.2.1 else b''.2.1) ∧ (b''.1 = -1 ↔ t = 0) ∧ (b''.2.2.1 = -1 ↔ t = 0) ∧ TW a'.2.2.2 ρ2 a sc v (gz g) (gz g + 1) (gz g1) (gz g1 + 1) (gz g1 + 2) 10 m n k h b''.2.2.2.2.2 ∧ Fr (fun q => q = v) g a'.2.2.2 ∧ Mf [] [53, 57, 58, 61, 62, 63] (s_I σ 0 0) b''.2.2.2.2.2 ∧ ∀ i, i ≠ 5 → m_A b''.2.2.2.2.2 53 i = m_A (s_I σ 0 0) 53 i :=
            fun q1 q2 p1 p2 p3 p4 k1 k2 k3 k4 => ⟨_, _, 0, 0, j - 1, by omega, rfl, rfl, rfl, rfl, t + 1, nI_1 t, nI_1 t, by omega, by omega, k1, k2, ⟨fun q => absurd q k3, fun q => by omega⟩, ⟨fun q => absurd q k4, fun q => by omega⟩, hT4, hF4, hM4, hrow4⟩
          -- what the model does
          obtain ⟨n1, n2, hn12⟩ : ∃ n1 n2, n1 = (if c1 = -1 then nI t else if r ≤ c2 then c1 else nI t) ∧ n2 = (if c1 = -1 then r else if r ≤ c2 then c2 else r) := ⟨_, _, rfl, rfl⟩
          obtain ⟨n3, n4, hn34⟩ : ∃ n3 n4, n3 = (if c3 = -1 then nI t else if c4 ≤ wo then c3 else nI t) ∧ n4 = (if c3 = -1 then wo else if c4 ≤ wo then c4 else wo) := ⟨_, _, rfl, rfl⟩
          have hj79 : X4_best_j79 what was n1 n2 c3 c4 (nI t) σ4 = some (Sum.inl (n1, n2, n3, n4, nI t + 1, σ4)) := by
            unfold X4_best_j79 X4_best_j94 X4_best_j104
            rw [hwm, e_ob, hn34.1, hn34.2]
            by_cases z1 : c3 = -1
            · rw [if_pos z1, if_pos z1, if_pos z1]
            · rw [if_neg z1, if_neg z1, if_neg z1, e_ob]
              by_cases z2 : c4 ≤ wo
              · rw [if_pos z2, if_pos z2, if_pos z2]
              · rw [if_neg z2, if_neg z2, if_neg z2]
          have hmod : (if c1 = -1 then X4_best_j72 what was c3 c4 (nI t) r σ4 else if r ≤ c2 then X4_best_j79 what was c1 c2 c3 c4 (nI t) σ4 else X4_best_j72 what was c3 c4 (nI t) r σ4) = some (Sum.inl (n1, n2, n3, n4, nI t + 1, σ4)) := by
            rw [← hj79, hn12.1, hn12.2]
            unfold X4_best_j72
            by_cases z1 : c1 = -1
            · rw [if_pos z1, if_pos z1, if_pos z1]
            · rw [if_neg z1, if_neg z1, if_neg z1]
              by_cases z2 : r ≤ c2
              · rw [if_pos z2, if_pos z2, if_pos z2]
              · rw [if_neg z2, if_neg z2, if_neg z2]
          have hn1 : n1 ≠ -1 := by
            rw [hn12.1]
            by_cases z1 : c1 = -1
            · rw [if_pos z1]; exact htn
            · rw [if_neg z1]
              split
              · exact z1
              · exact htn
          have hn3 : n3 ≠ -1 := by
            rw [hn34.1]
            by_cases z1 : c3 = -1
            · rw [if_pos z1]; exact htn
            · rw [if_neg z1]
              split
              · exact z1
              · exact htn
          rw [if_neg hlt, if_neg hlt, e_wk e5.2.1.1.1, e5.2.1.2.1.1, e_nn, e_wk e5.2.2.2.2.1.1, f1, e_cb, e_i5 (by omega) (by omega), cl_5, f4, e_cb, hmod]
          have hcomp : ∀ z, X1_best_j76 a what (gz g) b bm (nI t) z g4 = some (Sum.inl (if b = -1 then nI t else if 2 ≤ what then (if z < bm then nI t else b) else (if bm < z then nI t else b), if b = -1 then z else if 2 ≤ what then (if z < bm then z else bm) else (if bm < z then z else bm), nI t + 1, g4), 0, 0) := by
            intro z
            unfold X1_best_j76 X1_best_j108 X1_best_j115
            by_cases z1 : b = -1
            · rw [if_pos z1, if_pos z1, if_pos z1]
            · rw [if_neg z1, if_neg z1, if_neg z1]
              by_cases z2 : 2 ≤ what
              · rw [if_pos z2, if_pos z2, if_pos z2]
                split <;> rfl
              · rw [if_neg z2, if_neg z2, if_neg z2]
                split <;> rfl
          rw [e_wk hx.2.2.2.1, hwc, e_ob, e_wk hx.2.2.2.1, f2, e_ob, hcomp, hcomp]
          by_cases z2 : 2 ≤ what
          · rw [if_pos z2] at e3 e4
            rw [if_pos z2]
            refine Or.inl (step _ _ n1 n2 n3 n4 ?_ ?_ hn1 hn3)
            · rw [if_pos z2, hn34.1, e3, e4]
              by_cases z1 : c3 = -1
              · rw [if_pos z1, if_pos z1, if_pos z2]
              · rw [if_neg z1, if_neg z1, if_pos z2]
                by_cases z3 : c4 ≤ wo
                · rw [if_pos z3, if_neg (by rw [nlt_le]; exact z3)]
                · rw [if_neg z3, if_pos (nle_lt.mp z3)]
            · rw [if_pos z2, hn34.2, e3, e4]
              by_cases z1 : c3 = -1
              · rw [if_pos z1, if_pos z1, if_pos z2]
              · rw [if_neg z1, if_neg z1, if_pos z2]
                by_cases z3 : c4 ≤ wo
                · rw [if_pos z3, if_neg (by rw [nlt_le]; exact z3)]
                · rw [if_neg z3, if_pos (nle_lt.mp z3)]
          · rw [if_neg z2] at e3 e4
            rw [if_neg z2]
            refine Or.inl (step _ _ n1 n2 n3 n4 ?_ ?_ hn1 hn3)
            · rw [if_neg z2, hn12.1, e3, e4]
              by_cases z1 : c1 = -1
              · rw [if_pos z1, if_pos z1, if_neg z2]
              · rw [if_neg z1, if_neg z1, if_neg z2]
                by_cases z3 : r ≤ c2
                · rw [if_pos z3, if_neg (by rw [nlt_le]; exact z3)]
                · rw [if_neg z3, if_pos (nle_lt.mp z3)]
            · rw [if_neg z2, hn12.2, e3, e4]
              by_cases z1 : c1 = -1
              · rw [if_pos z1, if_pos z1, if_neg z2]
              · rw [if_neg z1, if_neg z1, if_neg z2]
                by_cases z3 : r ≤ c2
                · rw [if_pos z3, if_neg (by rw [nlt_le]; exact z3)]
                · rw [if_neg z3, if_pos (nle_lt.mp z3)]
        · have hlt : nI h ≤ nI t := nI_le (by omega) (by omega)
          rw [if_pos hlt, if_pos hlt]
          exact Or.inr ⟨_, _, 0, 0, rfl, rfl, rfl, rfl, e3, e4, e6, e7, e8⟩)
      fu_ h ((-1), (-1), 0, g2) ((-1), (-1), (-1), (-1), 0, s_I σ 0 0) 0 0 ⟨rfl, rfl, 0, rfl, rfl, Nat.zero_le _, rfl, by split <;> rfl, by split <;> rfl, ⟨fun _ => rfl, fun _ => rfl⟩, ⟨fun _ => rfl, fun _ => rfl⟩, a3, a5.mono (fun _ _ k => k.elim), Mf.rf, fun _ _ => rfl⟩ (by unfold fu_; omega)
    obtain ⟨e1, e2, e3⟩ := e
    obtain ⟨f1, f2, f3, f4, f5⟩ := e'
    simp only at m5 m6 m7 m8 m9
    obtain ⟨rfl⟩ : dc = 0 := by omega
    obtain ⟨rfl⟩ : ds = 0 := by omega
    have hav : ¬ a = gz g := by have := hp.1.1.1.2.2.1; omega
    have hyv : ¬ y = gz g := by have := hp.2.1.2.1.2.2.1; omega
    have hrel := hp0.q m7 a6 (meqA (f := 5) m8 m9 (by decide) (by decide))
    have hth : m_I (s_A f5 53 5 (m_A (s_I σ 0 0) 53 5)) 0 = 0 := by rw [rI_sA, m8.I (by decide)]; rfl
    rw [e_al, e_wk (by rw [K_nw, if_neg hav]; exact hp.1.1.1.1), R_nw, if_neg hav, hp.2.1.1, e_nn, e_wk (by rw [K_nw, if_neg hyv]; exact hp.2.1.2.1.1), a1, e_ca, a2, e_ca, m1, e_oa, bp_0, e_dv (by decide), e_i5 (by omega) (by omega), cl_5, ← hwas, m2, e_ob, e_i5 (by omega) (by omega), hwas]
    obtain ⟨w1, w2⟩ := wi_t.mp hw
    have hwhat : what = 0 ∨ what = 1 ∨ what = 2 ∨ what = 3 := by
      have k3 : ((3 : Int32)).toInt = 3 := by decide
      have k2 : ((2 : Int32)).toInt = 2 := by decide
      rw [k_0] at w1
      rw [k3] at w2
      rw [i_eq, i_eq, i_eq, i_eq, k_0, k_1, k2, k3]
      omega
    rcases hwhat with rfl | rfl | rfl | rfl
    · rw [if_neg (by decide)] at m5
      rw [if_pos (by decide), if_pos rfl, ← m5]
      exact OpT.ok (dc := 3 + dc1 + 1) (ds := 1803 + ds1 + 8) (by rw [e_b0, e_bp, e_bp]) rfl hrel (by omega) (by omega) hth
    · rw [if_neg (by decide)] at m6
      rw [if_neg (by decide), if_neg (by decide), if_pos rfl, ← m6]
      exact OpT.ok (dc := 3 + dc1 + 1) (ds := 1803 + ds1 + 8) (by rw [e_b0, e_bp, e_bp]) rfl hrel (by omega) (by omega) hth
    · rw [if_pos (by decide)] at m5
      rw [if_pos (by decide), if_neg (by decide), if_neg (by decide), if_pos rfl, ← m5]
      exact OpT.ok (dc := 3 + dc1 + 1) (ds := 1803 + ds1 + 8) (by rw [e_b0, e_bp, e_bp]) rfl hrel (by omega) (by omega) hth
    · rw [if_pos (by decide)] at m6
      rw [if_neg (by decide), if_neg (by decide), if_neg (by decide), if_neg (by decide), ← m6]
      exact OpT.ok (dc := 3 + dc1 + 1) (ds := 1803 + ds1 + 8) (by rw [e_b0, e_bp, e_bp]) rfl hrel (by omega) (by omega) hth
end
section
/-! LAWS: lags, takes, fits (own work) -/
set_option maxRecDepth 100000
theorem op_lags {a o : Nat} {g : GS} {σ : MS} (hr : Rel a o g σ) (what : Int32) : OpT [(1, 1)] a o (X1_lags a what g) (X4_lags what σ) := by
  obtain ⟨ρ, sc, v, n, k, h, y, m, T, hp⟩ := hr
  have hp0 := hp.m (s0_eq (c := 0))
  obtain ⟨-, hs1, hT6⟩ := hp0.1
  unfold X1_lags X4_lags
  cases hw : wi_ what 0 1 with
  | false =>
    refine OpT.ex (e := 1) (q := gz g) (r := 0) (g' := g) (σ' := s_I (s_I σ 0 0) 0 1) (dc := 1) (ds := 6) ?_ ?_ (hp0.r s0_eq) (by omega) (by omega) (List.mem_cons_self)
    · rw [X1_oneOf_f hw, e_tcr, e_b0]
    · rw [X4_isWhat_f s0_0 hw, e_cb, if_pos rfl]
  | true =>
    rw [X1_oneOf_t hw, e_tcl, bp_0, X4_isWhat_t s0_0 hw, e_cb, if_neg nn01]
    obtain ⟨g1, g2, ρ2, dc1, ds1, a1, a2, a3, a4, a5, a6, a7, a8, a9, a10⟩ := newtakec hp0
    obtain ⟨was, hwas⟩ : ∃ was, was = m_A (s_I σ 0 0) 53 1 := ⟨_, rfl⟩
    obtain ⟨e, e', dc, ds, m1, m2, m3, m4, m5, m6, m7, m8⟩ := la2_t (body := fun a1 : Int32 × Int32 × GS => X1_lags_b26 what (gz g) a1.1 a1.2.1 a1.2.2) (body' := fun a : Int32 × Int32 × Int32 × MS => X4_lags_b31 what was a.1 a.2.1 a.2.2.1 a.2.2.2)
      (I := fun j a1 b c d => c = 0 ∧ d = 0 ∧ ∃ t, a1.2.1 = nI t ∧ b.2.2.1 = nI t ∧ t ≤ 25 ∧ j = 25 - t ∧ a1.1 = (if what = 0 then b.1 else b.2.1) ∧ (b.1 = -1 ↔ b.2.1 = -1) ∧ TW a1.2.2 ρ2 a sc v (gz g) (gz g + 1) (gz g1) (gz g1 + 1) (gz g1 + 2) 10 m n k h b.2.2.2 ∧ Fr (fun q => q = v) g a1.2.2 ∧ Mf [] [53, 57, 58, 61, 62, 63] (s_I σ 0 0) b.2.2.2 ∧ ∀ i, i ≠ 1 → m_A b.2.2.2 53 i = m_A (s_I σ 0 0) 53 i)
      (Q := fun e e' c d => c = 0 ∧ d = 0 ∧ e.1 = (if what = 0 then e'.1 else e'.2.1) ∧ Fr (fun q => q = v) g e.2 ∧ Mf [] [53, 57, 58, 61, 62, 63] (s_I σ 0 0) e'.2.2 ∧ ∀ i, i ≠ 1 → m_A e'.2.2 53 i = m_A (s_I σ 0 0) 53 i)
      (by
        rintro j ⟨b, i1, g3⟩ ⟨l1, l2, i2, σ3⟩ c d ⟨c0, d0, t, e1, e2, t1, t2, e3, e4, e5, e6, e7, e8⟩
        simp only at e1 e2 e3 e4 e5 e6 e7 e8 ⊢
        subst c0 d0 e1 e2
        unfold X1_lags_b26 X4_lags_b31
        by_cases ht : t ≤ 24
        · have hlt : ¬ (24 : Int32) < nI t := nI_nlt (b := t) (a := 24) ht (by omega)
          have hti : (nI t).toInt = (t : Int) := i_n (by omega)
          have hT2 := e5.px (f := 1) (f' := 1) (w := nI t) (by omega) (e5.2.2.2.2.2.2.put (by omega))
          obtain ⟨r, g4, σ4, f1, f2, f3, f4, f5, f6, f7, f8, f9⟩ := hT2.rs (T := T) (by rw [(Mf.sA (LI := []) (LA := [53]) (by decide)).Af (by decide), e7.Af (by decide)]; exact hs1) hT6
          have hF4 : Fr (fun q => q = v) g g4 := (e6.trans (Fr.pI (W := fun q => q = gz g + 1) rfl) (fun q hq k => by omega)).trans f6 (fun q hq k => by
            rcases k with k | k | k | k
            · exact k
            · omega
            · omega
            · omega)
          have hM4 : Mf [] [53, 57, 58, 61, 62, 63] (s_I σ 0 0) σ4 := (e7.trans (Mf.sA (LI := []) (LA := [53]) (by decide)) (fun _ k => k) (by decide)).trans f8 (fun _ k => k) (by decide)
          have hrow4 : ∀ i, i ≠ 1 → m_A σ4 53 i = m_A (s_I σ 0 0) 53 i := fun i hi => by rw [f8.A (by decide), rA_sA, if_neg (by rintro ⟨-, k⟩; exact hi k), e8 i hi]
          obtain ⟨w, s1, s2, s3⟩ := hp0.seen hF4 f5 (hM4.Af (by decide)) (hM4.I (by decide))
          have htn : nI t ≠ -1 := by rw [Ne, i_eq, hti, k_n1]; omega
          have hT4 := f5.1
          have step : ∀ (q p1 p2 : Int32), q = (if what = 0 then p1 else p2) → (p1 = -1 ↔ p2 = -1) → ∃ a' b'' dc dk m', m' < j ∧ (some (Sum.inl (q, nI t + 1, g4), 0, 0) : Option (((Int32 × Int32 × GS) ⊕ (Int32 × GS)) × Nat × Nat)) = some (.inl a', dc, dk) ∧ (some (Sum.inl (p1, p2, nI t + 1, σ4)) : Option ((Int32 × Int32 × Int32 × MS) ⊕ (Int32 × Int32 × MS))) = some (.inl b'') ∧ dc + 0 = 0 ∧ dk + 0 = 0 ∧ ∃ t, a'.2.1 = nI t ∧ b''.2.2.1 = nI t ∧ t ≤ 25 ∧ m' = 25 - t ∧ a'.1 = (if what = 0 then b''.1 else b''.2.1) ∧ (b''.1 = -1 ↔ b''.2.1 = -1) ∧ TW a'.2.2 ρ2 a sc v (gz g) (gz g + 1) (gz g1) (gz g1 + 1) (gz g1 + 2) 10 m n k h b''.2.2.2 ∧ Fr (fun q => q = v) g a'.2.2 ∧ Mf [] [53, 57, 58, 61, 62, 63] (s_I σ 0 0) b''.2.2.2 ∧ ∀ i, i ≠ 1 → m_A b''.2.2.2 53 i = m_A (s_I σ 0 0) 53 i :=
            fun q p1 p2 k1 k2 => ⟨_, _, 0, 0, j - 1, by omega, rfl, rfl, rfl, rfl, t + 1, nI_1 t, nI_1 t, by omega, by omega, k1, k2, hT4, hF4, hM4, hrow4⟩
          rw [if_neg hlt, if_neg hlt, e_wk e5.2.1.1.1, e5.2.1.2.1.1, e_nn, e_wk e5.2.2.2.2.1.1, f1, e_cb, e_wk f5.1.2.1.1.1, s1, e_ob, e_i1 (by omega) (by omega), cl_1, f3, e_ob, s2, e_ob]
          unfold X1_lags_j64 X1_lags_j67 X4_lags_j71 X4_lags_j76
          rcases s3 with q | q
          · rw [q, if_pos rfl, if_pos rfl]
            exact Or.inl (step _ _ _ e3 e4)
          · rw [q, if_neg nn01, if_neg nn01]
            by_cases hl : l1 = -1
            · rw [if_pos hl]
              by_cases hwh : what = 0
              · rw [if_pos hwh, if_pos (by rw [e3, if_pos hwh, hl])]
                exact Or.inl (step _ _ _ (by rw [if_pos hwh]) ⟨fun q => absurd q htn, fun q => absurd q htn⟩)
              · rw [if_neg hwh]
                exact Or.inl (step _ _ _ (by rw [if_neg hwh]) ⟨fun q => absurd q htn, fun q => absurd q htn⟩)
            · rw [if_neg hl]
              by_cases hwh : what = 0
              · rw [if_pos hwh, if_neg (by rw [e3, if_pos hwh]; exact hl)]
                exact Or.inl (step _ _ _ (by rw [e3, if_pos hwh, if_pos hwh]) ⟨fun q => absurd q hl, fun q => absurd q htn⟩)
              · rw [if_neg hwh]
                exact Or.inl (step _ _ _ (by rw [if_neg hwh]) ⟨fun q => absurd q hl, fun q => absurd q htn⟩)
        · have hlt : (24 : Int32) < nI t := nI_lt (a := 24) (b := t) (by omega) (by omega)
          rw [if_pos hlt, if_pos hlt]
          exact Or.inr ⟨_, _, 0, 0, rfl, rfl, rfl, rfl, e3, e6, e7, e8⟩)
      fu_ 25 ((-1), 0, g2) ((-1), (-1), 0, s_I σ 0 0) 0 0 ⟨rfl, rfl, 0, rfl, rfl, Nat.zero_le _, rfl, by split <;> rfl, Iff.rfl, a3, a5.mono (fun _ _ k => k.elim), Mf.rf, fun _ _ => rfl⟩ (by unfold fu_; omega)
    obtain ⟨e1, e2⟩ := e
    obtain ⟨f1, f2, f3⟩ := e'
    simp only at m5 m6 m7 m8
    obtain ⟨rfl⟩ : dc = 0 := by omega
    obtain ⟨rfl⟩ : ds = 0 := by omega
    have hav : ¬ a = gz g := by have := hp.1.1.1.2.2.1; omega
    have hyv : ¬ y = gz g := by have := hp.2.1.2.1.2.2.1; omega
    have hrel := hp0.q m6 a6 (meqA (f := 1) m7 m8 (by decide) (by decide))
    have hth : m_I (s_A f3 53 1 (m_A (s_I σ 0 0) 53 1)) 0 = 0 := by rw [rI_sA, m7.I (by decide)]; rfl
    rw [e_al, e_wk (by rw [K_nw, if_neg hav]; exact hp.1.1.1.1), R_nw, if_neg hav, hp.2.1.1, e_nn, e_wk (by rw [K_nw, if_neg hyv]; exact hp.2.1.2.1.1), a1, e_ca, a2, e_ca, m1, e_oa, bp_0, e_i1 (by omega) (by omega), cl_1, ← hwas, m2, e_ob, e_i1 (by omega) (by omega), hwas]
    by_cases hwh : what = 0
    · rw [if_pos hwh] at m5
      rw [if_pos hwh, ← m5]
      exact OpT.ok (dc := 3 + dc1 + 1) (ds := 1803 + ds1 + 8) (by rw [e_b0, e_bp, e_bp]) rfl hrel (by omega) (by omega) hth
    · rw [if_neg hwh] at m5
      rw [if_neg hwh, ← m5]
      exact OpT.ok (dc := 3 + dc1 + 1) (ds := 1803 + ds1 + 8) (by rw [e_b0, e_bp, e_bp]) rfl hrel (by omega) (by omega) hth
/-! takes by a seed -/
theorem TW.pa {g : GS} {ρ : Nat → Nat} {a sc v u x sa ra oa r m n k h i : Nat} {σ σ' : MS} {w : Int32} (hT : TW g ρ a sc v u x sa ra oa r m n k h σ) (hr1 : r ≠ 1) (hM : Mf [73] [] σ σ') : TW (pI g a i w) ρ a sc v u x sa ra oa r m n k h σ' := by
  obtain ⟨hC, hK, ⟨⟨n1, n1'⟩, ⟨n2, n2'⟩, n3, n3'⟩, ⟨hr, hS, ⟨hm, hm6⟩, hR⟩⟩ := hT
  have hF : Fr (fun q => q = a) g (pI g a i w) := Fr.pI rfl
  have ha1 := hC.1.1
  have ha2 := hC.1.2.1
  have hau : ¬ u = a := by intro q; have := hK.1.1; rw [q, ha1] at this; omega
  refine ⟨hC.to hF Ag.rf (fun q _ k k' => by rw [k', ha2] at k; omega) ⟨rfl, rfl⟩ hM (by decide) (by decide), hK.to hF Ag.rf (fun _ => rfl), ⟨⟨by rw [I_pI, if_neg (by rintro ⟨q, -⟩; exact hau q), n1, hM.I (by decide)], by rw [hM.I (by decide)]; exact n1'⟩, ⟨by rw [I_pI, if_neg (by rintro ⟨q, -⟩; exact hau q), n2, hM.I (by decide)], by rw [hM.I (by decide)]; exact n2'⟩, by rw [I_pI, if_neg (by rintro ⟨q, -⟩; exact hau q), n3, hM.I (by decide)], by rw [hM.I (by decide)]; exact n3'⟩, hr, ?_, ⟨by rw [hM.I (by decide)]; exact hm, hm6⟩, ?_⟩
  · rw [hM.Af (by decide)]
    exact hS.to hF Ag.rf (fun q _ k k' => by rw [k', ha2] at k; omega)
  · rw [hM.Af (by decide)]; exact hR
theorem draw_l {d : Nat} (hd : 1 ≤ d) (hd2 : d ≤ 30) (x : Int32) : 0 ≤ ((x &&& 32767) - (x &&& 32767) / nI d * nI d).toInt ∧ ((x &&& 32767) - (x &&& 32767) / nI d * nI d).toInt ≤ 29 := by
  obtain ⟨j, j1, j2⟩ := pk_andE x (m := 32767) 15 (by decide)
  rw [j2]
  have j3 : j < 32768 := j1
  have e1 : nI j / nI d = nI (j / d) := (Int32.ofNat_div (by omega) (by omega)).symm
  have e2 : nI (j / d) * nI d = nI (j / d * d) := (Int32.ofNat_mul _ _).symm
  have h1 : j / d * d ≤ j := Nat.div_mul_le_self j d
  have h2 : j < j / d * d + d := by
    have := Nat.lt_div_mul_add (a := j) (b := d) hd
    omega
  rw [e1, e2, i_sub (by rw [i_n (by omega), i_n (by omega)]; omega) (by rw [i_n (by omega), i_n (by omega)]; omega), i_n (by omega), i_n (by omega)]
  omega
theorem op_takes {a o : Nat} {g : GS} {σ : MS} (hr : Rel a o g σ) (seed many late good what : Int32) : OpT [(1, 1), (2, 2)] a o (X1_takes a seed many late good what g) (X4_takes seed many late good what σ) := by
  obtain ⟨ρ, sc, v, n, k, h, y, m, T, hp⟩ := hr
  have hp0 := hp.m (s0_eq (c := 0))
  obtain ⟨-, hs1, hT6⟩ := hp0.1
  have hC := hp.1.1
  have ha := hC.1.2.2.1
  unfold X1_takes X4_takes
  cases hw : wi_ what 0 2 with
  | false =>
    refine OpT.ex (e := 1) (q := gz g) (r := 0) (g' := g) (σ' := s_I (s_I σ 0 0) 0 1) (dc := 1) (ds := 6) ?_ ?_ (hp0.r s0_eq) (by omega) (by omega) (List.mem_cons_self)
    · rw [X1_oneOf_f hw, e_tcr, e_b0]
    · rw [X4_isWhat_f s0_0 hw, e_cb, if_pos rfl]
  | true =>
    rw [X1_oneOf_t hw, e_tcl, bp_0, X4_isWhat_t s0_0 hw, e_cb, if_neg nn01]
    have hbad : OpT [(1, 1), (2, 2)] a o (X1_takes_j42 a seed many late good what g) (X4_takes_j52 seed many late good what (s_I σ 0 0)) := by
      unfold X1_takes_j42 X4_takes_j52 X1_takes_j43 X4_takes_j53
      refine OpT.ex (e := 2) (q := gz g) (r := 0) (g' := g) (σ' := s_I (s_I σ 0 0) 0 2) (dc := 1) (ds := 6) ?_ ?_ (hp0.r s0_eq) (by omega) (by omega) (List.mem_cons_of_mem _ List.mem_cons_self)
      · rw [X1_right_f, e_tcr, e_b0]
      · rw [X4_right0 s0_0 (by decide), e_cb, if_pos rfl]
    rw [X1_in_l, X4_within_l, e_ob, e_ob]
    cases hw2 : wi_ many 0 40 with
    | false => exact hbad
    | true =>
      rw [if_pos rfl, if_neg nn01, if_neg nn01, X1_in_l, X4_within_l, e_ob, e_ob]
      cases hw3 : wi_ late 1 30 with
      | false => exact hbad
      | true =>
        rw [if_pos rfl, if_neg nn01, if_neg nn01, X1_in_l, X4_within_l, e_ob, e_ob]
        cases hw4 : wi_ good 0 601 with
        | false => exact hbad
        | true =>
          rw [if_pos rfl, if_neg nn01, if_neg nn01]
          obtain ⟨u1, u2⟩ := wi_t.mp hw2
          rw [k_0] at u1
          have u2 : many.toInt ≤ 40 := u2
          obtain ⟨mn, rfl, mn2, -⟩ := i_nat u1
          obtain ⟨u3, u4⟩ := wi_t.mp hw3
          rw [k_1] at u3
          have u4 : late.toInt ≤ 30 := u4
          obtain ⟨dl, rfl, dl2, -⟩ := i_nat (x := late) (by omega)
          -- the state with its seed
          have hpS : RelP a o sc v n k h y m T (pI g a 15 seed) ρ (s_I (s_I σ 0 0) 73 seed) := hp0.to (W := fun q => q = a) (Fr.pI rfl) Ag.rf (fun q _ k => Or.inl k) (fun _ => rfl) (fun i hi => by rw [I_pI, if_neg (by rintro ⟨-, q⟩; exact hi q)]) ((Mf.sI (LI := [73]) (LA := []) (by decide)).eq (by decide) (by decide))
          obtain ⟨g1, b1, b2, b3, b4⟩ := newtake hpS
          have hFr0 : Fr (fun q => q = v ∨ q = a) g g1 := (Fr.pI (W := fun q => q = v ∨ q = a) (Or.inr rfl)).trans b3 (fun _ _ k => k.elim)
          have hva : ¬ a = v := by
            intro q
            have q1 := hp.1.1.1.1
            rw [q, hp.1.1.2.1.1] at q1
            omega
          have hz1 : gz (pI g a 15 seed) = gz g := rfl
          rw [hz1] at b1 b2 b4
          obtain ⟨e, e', dc, ds, m1, m2, m3, m4, m5, m6, m7, m8, m9, m10, m11⟩ := la2_t (body := fun a1 : Int32 × Int32 × Int32 × Int32 × GS => X1_takes_b77 a (nI mn) (nI dl) good what (gz g) a1.1 a1.2.1 a1.2.2.1 a1.2.2.2.1 a1.2.2.2.2) (body' := fun a : Int32 × Int32 × Int32 × Int32 × MS => X4_takes_b79 (nI mn) (nI dl) good what a.1 a.2.1 a.2.2.1 a.2.2.2.1 a.2.2.2.2)
            (I := fun j a1 b c d => c = 0 ∧ d = 0 ∧ ∃ t, a1.2.2.2.1 = nI t ∧ b.2.2.2.1 = nI t ∧ t ≤ mn ∧ j = mn - t ∧ a1.1 = b.1 ∧ a1.2.1 = b.2.1 ∧ a1.2.2.1 = b.2.2.1 ∧ TW a1.2.2.2.2 (nr ρ (pI g a 15 seed) 9) a sc v (gz g) y (gz g + 1) (gz g + 2) (gz g + 3) 2 m n k h b.2.2.2.2 ∧ Fr (fun q => q = v ∨ q = a) g a1.2.2.2.2 ∧ ((∀ i, gR a1.2.2.2.2 a i = gR g a i) ∧ (∀ i, i ≠ 15 → gI a1.2.2.2.2 a i = gI g a i) ∧ gI a1.2.2.2.2 a 15 = m_I b.2.2.2.2 73) ∧ Mf [59, 73] [57, 58, 61, 62, 63] (s_I σ 0 0) b.2.2.2.2)
            (Q := fun e e' c d => c = 0 ∧ d = 0 ∧ e.1 = e'.1 ∧ e.2.1 = e'.2.1 ∧ e.2.2.1 = e'.2.2.1 ∧ Fr (fun q => q = v ∨ q = a) g e.2.2.2 ∧ (∀ i, gR e.2.2.2 a i = gR g a i) ∧ (∀ i, i ≠ 15 → gI e.2.2.2 a i = gI g a i) ∧ Mf [59, 73] [57, 58, 61, 62, 63] (s_I σ 0 0) e'.2.2.2)
            (by
              rintro j ⟨q1, q2, q3, i1, g2⟩ ⟨p1, p2, p3, i2, σ2⟩ c d ⟨c0, d0, t, e1, e2, t1, t2, e3, e4, e5, e6, e7, ⟨e8, e8', e8''⟩, e9⟩
              simp only at e1 e2 e3 e4 e5 e6 e7 e8 e8' e8'' e9 ⊢
              subst c0 d0 e1 e2 e3 e4 e5
              unfold X1_takes_b77 X4_takes_b79
              by_cases ht : t < mn
              · have hlt : ¬ nI mn ≤ nI t := nI_ge ht (by omega)
                obtain ⟨sd, hsd⟩ : ∃ sd, sd = m_I σ2 73 * 1103515245 + 12345 := ⟨_, rfl⟩
                obtain ⟨dr, hdr⟩ : ∃ dr, dr = ((sd >>> ((16 : Int32) &&& 31)) &&& 32767) - ((sd >>> ((16 : Int32) &&& 31)) &&& 32767) / nI dl * nI dl := ⟨_, rfl⟩
                have hdrr := draw_l (d := dl) (by omega) (by omega) (sd >>> ((16 : Int32) &&& 31))
                rw [← hdr] at hdrr
                have hdl0 : ¬ nI dl = 0 := nI_ne0 (by omega) (by omega)
                have ha2 : gK g2 a = 1 := e6.1.1.1
                have hdX : X1_draw a (nI dl) g2 = some (dr, pI g2 a 15 sd) := by
                  unfold X1_draw
                  rw [e_wk ha2, e_dv hdl0, e8'', ← hsd, I_pI, if_pos ⟨rfl, rfl⟩, ← hdr]
                have hdM : X4_draw (nI dl) σ2 = some (dr, s_I σ2 73 sd) := by
                  unfold X4_draw
                  rw [e_dv hdl0, ← hsd, ← hdr]
                have hT3 := (e6.pa (i := 15) (w := sd) (σ' := s_I σ2 73 sd) (by omega) (Mf.sI (by decide)))
                have hT4 := hT3.pu (f := 4) (w := dr) (hT3.2.2.1.at4 (by omega)) ((Mf.sI (LI := [59, 60, 64]) (LA := []) (by decide)))
                obtain ⟨r, g4, σ4, f1, f2, f3, f4, f5, f6, f7, f8, f9⟩ := hT4.rs (T := T) (by rw [(Mf.sI (LI := [59]) (LA := []) (by decide)).Af (by decide), (Mf.sI (LI := [73]) (LA := []) (by decide)).Af (by decide), e9.Af (by decide)]; exact hs1) hT6
                have hu2 := e6.2.1.1.1
                have hau : ¬ a = gz g := by omega
                have hF3 : Fr (fun q => q = v ∨ q = a) g (pI (pI g2 a 15 sd) (gz g) 4 dr) := (e7.trans (Fr.pI (W := fun q => q = a) rfl) (fun q hq k => Or.inr k)).trans (Fr.pI (W := fun q => q = gz g) rfl) (fun q hq k => by omega)
                have hF4 : Fr (fun q => q = v ∨ q = a) g g4 := hF3.trans f6 (fun q hq k => by
                  rcases k with k | k | k | k
                  · exact Or.inl k
                  · omega
                  · omega
                  · omega)
                have hanw : ¬ tw_ v (gz g + 1) (gz g + 2) (gz g + 3) a := by
                  rintro (k | k | k | k)
                  · exact hva k
                  · omega
                  · omega
                  · omega
                have ha3 : a < gz (pI (pI g2 a 15 sd) (gz g) 4 dr) := e6.1.1.2.2.1
                have hR4 : ∀ i, gR g4 a i = gR g a i := fun i => by rw [f6.R ha3 hanw, R_pI, R_pI, e8 i]
                have hI4 : ∀ i, i ≠ 15 → gI g4 a i = gI g a i := fun i hi => by rw [f6.I ha3 hanw, I_pI, if_neg (by rintro ⟨q, -⟩; exact hau q), I_pI, if_neg (by rintro ⟨-, q⟩; exact hi q), e8' i hi]
                have hS4 : gI g4 a 15 = m_I σ4 73 := by
                  rw [f6.I ha3 hanw, I_pI, if_neg (by rintro ⟨q, -⟩; exact hau q), I_pI, if_pos ⟨rfl, rfl⟩, f8.I (by decide), rI_sI, if_neg (by decide), rI_sI, if_pos rfl]
                have hM4 : Mf [59, 73] [57, 58, 61, 62, 63] (s_I σ 0 0) σ4 := ((e9.trans (Mf.sI (LI := [73]) (LA := []) (by decide)) (by decide) (by decide)).trans (Mf.sI (LI := [59]) (LA := []) (by decide)) (by decide) (by decide)).trans f8 (by decide) (fun _ k => k)
                rw [if_neg hlt, if_neg hlt, e_wk ha2, hdX, e_cb, e_wk (by exact hu2), f1, e_cb, e_wk f5.1.2.1.1.1, f2, e_ob, hdM, e_cb, f4, e_cb]
                have key : ∀ w1 w2 w3 : Int32, ∃ a' b'' dc dk m', m' < j ∧ (some (Sum.inl (w1, w2, w3, nI t + 1, g4), 0, 0) : Option (((Int32 × Int32 × Int32 × Int32 × GS) ⊕ (Int32 × Int32 × Int32 × GS)) × Nat × Nat)) = some (.inl a', dc, dk) ∧ (some (Sum.inl (w1, w2, w3, nI t + 1, σ4)) : Option ((Int32 × Int32 × Int32 × Int32 × MS) ⊕ (Int32 × Int32 × Int32 × MS))) = some (.inl b'') ∧ dc + 0 = 0 ∧ dk + 0 = 0 ∧ ∃ t, a'.2.2.2.1 = nI t ∧ b''.2.2.2.1 = nI t ∧ t ≤ mn ∧ m' = mn - t ∧ a'.1 = b''.1 ∧ a'.2.1 = b''.2.1 ∧ a'.2.2.1 = b''.2.2.1 ∧ TW a'.2.2.2.2 (nr ρ (pI g a 15 seed) 9) a sc v (gz g) y (gz g + 1) (gz g + 2) (gz g + 3) 2 m n k h b''.2.2.2.2 ∧ Fr (fun q => q = v ∨ q = a) g a'.2.2.2.2 ∧ ((∀ i, gR a'.2.2.2.2 a i = gR g a i) ∧ (∀ i, i ≠ 15 → gI a'.2.2.2.2 a i = gI g a i) ∧ gI a'.2.2.2.2 a 15 = m_I b''.2.2.2.2 73) ∧ Mf [59, 73] [57, 58, 61, 62, 63] (s_I σ 0 0) b''.2.2.2.2 :=
                  fun w1 w2 w3 => ⟨_, _, 0, 0, j - 1, by omega, rfl, rfl, rfl, rfl, t + 1, nI_1 t, nI_1 t, by omega, by omega, rfl, rfl, rfl, f5.1, hF4, ⟨hR4, hI4, hS4⟩, hM4⟩
                unfold X1_takes_j113 X4_takes_j114 X1_takes_j137 X4_takes_j136 X4_takes_j143 jmin_
                by_cases hg : r < good
                · rw [if_pos hg, if_pos hg, Int32.add_zero]
                  by_cases h0 : nI t = 0
                  · rw [if_pos h0, if_pos h0]; exact Or.inl (key _ _ _)
                  · rw [if_neg h0, if_neg h0]
                    by_cases h1 : q3 ≤ r
                    · rw [if_pos h1, if_neg (by rw [nlt_le]; exact h1)]; exact Or.inl (key _ _ _)
                    · rw [if_neg h1, if_pos (nle_lt.mp h1)]; exact Or.inl (key _ _ _)
                · rw [if_neg hg, if_neg hg]
                  by_cases h0 : nI t = 0
                  · rw [if_pos h0, if_pos h0]; exact Or.inl (key _ _ _)
                  · rw [if_neg h0, if_neg h0]
                    by_cases h1 : q3 ≤ r
                    · rw [if_pos h1, if_neg (by rw [nlt_le]; exact h1)]; exact Or.inl (key _ _ _)
                    · rw [if_neg h1, if_pos (nle_lt.mp h1)]; exact Or.inl (key _ _ _)
              · have hlt : nI mn ≤ nI t := nI_le (by omega) (by omega)
                rw [if_pos hlt, if_pos hlt]
                exact Or.inr ⟨_, _, 0, 0, rfl, rfl, rfl, rfl, rfl, rfl, rfl, e7, e8, e8', e9⟩)
            fu_ mn (0, 0, 0, 0, g1) (0, 0, 0, 0, s_I (s_I σ 0 0) 73 seed) 0 0 ⟨rfl, rfl, 0, rfl, rfl, Nat.zero_le _, rfl, rfl, rfl, rfl, b2, hFr0, ⟨fun i => by show gR g1 a i = _; rw [b3.R (show a < gz (pI g a 15 seed) from ha) (fun k => k)]; rfl, fun i hi => by show gI g1 a i = _; rw [b3.I (show a < gz (pI g a 15 seed) from ha) (fun k => k), I_pI, if_neg (by rintro ⟨-, q⟩; exact hi q)], by show gI g1 a 15 = _; rw [b3.I (show a < gz (pI g a 15 seed) from ha) (fun k => k), I_pI, if_pos ⟨rfl, rfl⟩]; show seed = m_I (s_I (s_I σ 0 0) 73 seed) 73; rw [rI_sI, if_pos rfl]⟩, Mf.sI (by decide)⟩ (by unfold fu_; omega)
          obtain ⟨e1, e2, e3, e4⟩ := e
          obtain ⟨f1, f2, f3, f4⟩ := e'
          simp only at m5 m6 m7 m8 m9 m10 m11
          obtain ⟨rfl⟩ : dc = 0 := by omega
          obtain ⟨rfl⟩ : ds = 0 := by omega
          subst m5 m6 m7
          have hav : ¬ a = gz g := by omega
          have hrel : Rel a o e4 (s_I f4 59 0) := ⟨nr ρ g 9, sc, v, n, k, h, y, m, T, hp0.to m8 nr_ag (fun q _ k => k.elim (fun k => by rw [k]; exact Or.inr (Or.inl hp.1.1.2.1.2.2.1)) (fun k => Or.inl k)) m9 m10 (meqI (c := 59) hp0.2.2.1.1 m11 (by decide) (by decide))⟩
          have hth : m_I (s_I f4 59 0) 0 = 0 := by rw [rI_sI, if_neg (by decide), m11.I (by decide)]; rfl
          unfold X1_takes_j43 X4_takes_j53
          rw [X1_right_t, e_tcl, bp_0, e_wk hp.1.1.1.1, e_al, e_wk (by rw [K_nw, if_neg (by exact hav)]; exact hp.1.1.1.1), R_nw, if_neg (by exact hav), R_pI, hp.2.1.1, e_nn, hz1, b1, e_ca, m1, e_oa, bp_0, X4_right1 s0_0, e_cb, if_neg nn01, m2, e_ob]
          by_cases hwh : what = 0
          · rw [if_pos hwh, if_pos hwh]
            exact OpT.ok (dc := 4) (ds := 1811) rfl rfl hrel (by omega) (by omega) hth
          · rw [if_neg hwh, if_neg hwh]
            by_cases hwh1 : what = 1
            · rw [if_pos hwh1, if_pos hwh1]
              exact OpT.ok (dc := 4) (ds := 1811) rfl rfl hrel (by omega) (by omega) hth
            · rw [if_neg hwh1, if_neg hwh1]
              exact OpT.ok (dc := 4) (ds := 1811) rfl rfl hrel (by omega) (by omega) hth
end
section
/-! LAWS: fits (own work) -/
set_option maxRecDepth 100000
theorem GS.ext' {g g' : GS} (h1 : ∀ q, gK g q = gK g' q) (h2 : ∀ q, gN g q = gN g' q) (h3 : ∀ q i, gI g q i = gI g' q i) (h4 : ∀ q i, gR g q i = gR g' q i) (h5 : gz g = gz g') (h6 : gS g = gS g') : g = g' := by
  obtain ⟨a, b, c, d, e, f⟩ := g
  obtain ⟨a', b', c', d', e', f'⟩ := g'
  have e1 : a = a' := funext h1
  have e2 : b = b' := funext h2
  have e3 : c = c' := funext fun j => funext fun i => h3 j i
  have e4 : d = d' := funext fun j => funext fun i => h4 j i
  have e5 : e = e' := h5
  have e6 : f = f' := h6
  rw [e1, e2, e3, e4, e5, e6]
theorem pI_pI {g : GS} {a k : Nat} {v w : Int32} : pI (pI g a k v) a k w = pI g a k w := by
  refine GS.ext' (fun _ => rfl) (fun _ => rfl) (fun b i => ?_) (fun _ _ => rfl) rfl rfl
  rw [I_pI, I_pI, I_pI]
  by_cases h : b = a ∧ i = k
  · rw [if_pos h, if_pos h]
  · rw [if_neg h, if_neg h, if_neg h]
theorem pI_cm {g : GS} {a b k j : Nat} {v w : Int32} (hab : ¬ a = b) : pI (pI g a k v) b j w = pI (pI g b j w) a k v := by
  refine GS.ext' (fun _ => rfl) (fun _ => rfl) (fun c i => ?_) (fun _ _ => rfl) rfl rfl
  rw [I_pI, I_pI, I_pI, I_pI]
  by_cases h : c = b ∧ i = j
  · rw [if_pos h, if_neg (by rintro ⟨q, -⟩; exact hab (q.symm.trans h.1)), if_pos h]
  · rw [if_neg h]
    by_cases h2 : c = a ∧ i = k
    · rw [if_pos h2, if_pos h2]
    · rw [if_neg h2, if_neg h2, if_neg h]
theorem op_fits {a o : Nat} {g : GS} {σ : MS} (hr : Rel a o g σ) (what : Int32) : OpT [(1, 1)] a o (X1_fits a what g) (X4_fits what σ) := by
  obtain ⟨ρ, sc, v, n, k, h, y, m, T, hp⟩ := hr
  have hp0 := hp.m (s0_eq (c := 0))
  obtain ⟨-, hs1, hT6⟩ := hp0.1
  unfold X1_fits X4_fits
  cases hw : wi_ what 0 1 with
  | false =>
    refine OpT.ex (e := 1) (q := gz g) (r := 0) (g' := g) (σ' := s_I (s_I σ 0 0) 0 1) (dc := 1) (ds := 6) ?_ ?_ (hp0.r s0_eq) (by omega) (by omega) (List.mem_cons_self)
    · rw [X1_oneOf_f hw, e_tcr, e_b0]
    · rw [X4_isWhat_f s0_0 hw, e_cb, if_pos rfl]
  | true =>
    rw [X1_oneOf_t hw, e_tcl, bp_0, X4_isWhat_t s0_0 hw, e_cb, if_neg nn01]
    obtain ⟨g1, g2, ρ2, dc1, ds1, a1, a2, a3, a4, a5, a6, a7, a8, a9, a10⟩ := newtakec hp0
    have hC := hp0.1.1
    have h5 : m_I (s_I σ 0 0) 5 = nI h := hC.2.2.2.2.1.2.2.1
    have h4 : h ≤ 4 := hC.2.2.2.2.1.2.2.2
    obtain ⟨l2, xs2, q21, q22, q23, -⟩ := hC.2.2.2.2.2.1.2.2
    have hscl := hC.2.2.2.1.2.2.1
    have hsv : ¬ sc = v := by
      intro q
      have q1 := hC.2.2.2.1.1
      rw [q, hp.1.1.2.1.1] at q1
      omega
    have hux : ¬ gz g = gz g + 1 := by omega
    obtain ⟨was, hwas⟩ : ∃ was, was = m_A (s_I σ 0 0) 53 5 := ⟨_, rfl⟩
    have hwr : -1 ≤ was.toInt ∧ was.toInt < h := by
      have := a3.2.2.2.2.2.2.2.2.2.2.2.1
      rw [hwas]; exact this
    have hT0 : TW (pI g2 (gz g + 1) 4 was) ρ2 a sc v (gz g) (gz g + 1) (gz g1) (gz g1 + 1) (gz g1 + 2) 10 m n k h (s_I σ 0 0) := by
      have := a3.px (f := 4) (f' := 5) (w := was) (by omega) (a3.2.2.2.2.2.2.put (by omega))
      rw [sA_id hwas] at this
      exact this
    obtain ⟨e, e', dc, ds, m1, m2, m3, m4, m5, m6, m7, m8, m9⟩ := la2_t (body := fun a1 : Int32 × Int32 × Int32 × GS => X1_fits_b29 a what (gz g) a1.1 a1.2.1 a1.2.2.1 a1.2.2.2) (body' := fun a : Int32 × Int32 × Int32 × MS => X4_fits_b31 what was a.1 a.2.1 a.2.2.1 a.2.2.2)
      (I := fun j a1 b c d => c = 0 ∧ d = 0 ∧ ∃ t cnt w, a1.2.2.1 = nI t - 1 ∧ b.2.2.1 = nI t - 1 ∧ t ≤ h + 1 ∧ j = h + 1 - t ∧ a1.1 = nI cnt ∧ b.1 = nI cnt ∧ cnt ≤ 21 * t ∧ a1.2.1 = b.2.1 ∧ (b.2.1 = -1 ↔ cnt = 0) ∧ TW (pI a1.2.2.2 (gz g + 1) 4 w) ρ2 a sc v (gz g) (gz g + 1) (gz g1) (gz g1 + 1) (gz g1 + 2) 10 m n k h b.2.2.2 ∧ Fr (fun q => q = v) g a1.2.2.2 ∧ Mf [59] [53, 57, 58, 61, 62, 63] (s_I σ 0 0) b.2.2.2 ∧ ∀ i, i ≠ 5 → m_A b.2.2.2 53 i = m_A (s_I σ 0 0) 53 i)
      (Q := fun e e' c d => c = 0 ∧ d = 0 ∧ e.1 = e'.1 ∧ e.2.1 = e'.2.1 ∧ Fr (fun q => q = v) g e.2.2 ∧ Mf [59] [53, 57, 58, 61, 62, 63] (s_I σ 0 0) e'.2.2 ∧ ∀ i, i ≠ 5 → m_A e'.2.2 53 i = m_A (s_I σ 0 0) 53 i)
      (by
        rintro j ⟨q1, q2, i1, g3⟩ ⟨p1, p2, i2, σ3⟩ c d ⟨c0, d0, t, cnt, w, e1, e2, t1, t2, e3, e4, e5, u1, u2, u3, u4, u5, u6⟩
        simp only at e1 e2 e3 e4 u1 u2 u3 u4 u5 u6 ⊢
        subst c0 d0 e1 e2 e3 e4 u1
        have hti : (nI t - 1).toInt = (t : Int) - 1 := by
          have q1 : (nI t).toInt = (t : Int) := i_n (by omega)
          rw [i_sub (by rw [q1, k_1]; omega) (by rw [q1, k_1]; omega), q1, k_1]
        have ha3 : gK g3 a = 1 := u3.1.1.1
        have has : gR g3 a 0 = sc + 1 := u3.1.1.2.2.2.1
        have hks : gK g3 sc = 2 := u3.1.2.2.2.1.1
        have hl3 : gR g3 sc 2 = l2 + 1 := by rw [u4.R hscl hsv, q21]
        have hL3 : LiP g3 ρ 0 l2 xs2 := q22.to u4 Ag.rf (fun q _ k1 k2 => by rw [k2, hC.2.1.2.2.1] at k1; omega)
        have hlen : nI xs2.length = nI h := by rw [q23]
        unfold X1_fits_b29 X4_fits_b31
        rw [e_wk ha3, has, e_nn, e_wk hks, hl3, e_nn, e_wk hL3.K, J2_size_l hL3, e_ob, hlen, u5.I (by decide), h5]
        by_cases ht : t ≤ h
        · have hlt : ¬ nI h ≤ nI t - 1 := by rw [i_le, hti, i_n (by omega)]; omega
          rw [if_neg hlt, if_neg hlt, e_wk (by exact u3.2.1.1.1), e_i5 (by omega) (by omega), cl_5]
          obtain ⟨hd, hhd⟩ : ∃ hd, hd = nI t - 1 := ⟨_, rfl⟩
          have hd1 : hd + 1 = nI t := by rw [hhd, Int32.sub_add_cancel]
          rw [← hhd] at hti ⊢
          have w1 : TW (pI g3 (gz g + 1) 4 hd) ρ2 a sc v (gz g) (gz g + 1) (gz g1) (gz g1 + 1) (gz g1 + 2) 10 m n k h (s_A σ3 53 5 hd) := by
            have := u3.px (f := 4) (f' := 5) (w := hd) (by omega) (u3.2.2.2.2.2.2.put (by omega))
            rw [pI_pI] at this
            exact this
          have w2 : TW (pI (pI g3 (gz g) 4 0) (gz g + 1) 4 hd) ρ2 a sc v (gz g) (gz g + 1) (gz g1) (gz g1 + 1) (gz g1 + 2) 10 m n k h (s_I (s_A σ3 53 5 hd) 59 0) := by
            rw [pI_cm hux]
            exact w1.pu (f := 4) (w := 0) (w1.2.2.1.at4 (by decide)) (Mf.sI (LI := [59, 60, 64]) (LA := []) (by decide))
          obtain ⟨e, e', dc, ds, m1, m2, m3, m4, cn, m5, m6, m7, m8, m9, m10, m11, m12, m13⟩ := la2_t (body := fun a1 : Int32 × Int32 × GS => X1_fits_b51 a what (gz g) hd a1.1 a1.2.1 a1.2.2) (body' := fun a : Int32 × Int32 × MS => X4_fits_b53 what was hd a.1 a.2.1 a.2.2)
            (I := fun j a1 b c d => c = 0 ∧ d = 0 ∧ ∃ l cn, m_I b.2.2 59 = nI l ∧ l ≤ 21 ∧ j = 21 - l ∧ a1.1 = nI cn ∧ b.1 = nI cn ∧ cn ≤ 21 * t + l ∧ a1.2.1 = b.2.1 ∧ (b.2.1 = -1 ↔ cn = 0) ∧ TW (pI a1.2.2 (gz g + 1) 4 hd) ρ2 a sc v (gz g) (gz g + 1) (gz g1) (gz g1 + 1) (gz g1 + 2) 10 m n k h b.2.2 ∧ Fr (fun q => q = v) g a1.2.2 ∧ Mf [59] [53, 57, 58, 61, 62, 63] (s_I σ 0 0) b.2.2 ∧ (∀ i, i ≠ 5 → m_A b.2.2 53 i = m_A (s_I σ 0 0) 53 i) ∧ m_A b.2.2 53 5 = hd)
            (Q := fun e e' c d => c = 0 ∧ d = 0 ∧ ∃ cn, e.1 = nI cn ∧ e'.1 = nI cn ∧ cn ≤ 21 * t + 21 ∧ e.2.1 = e'.2.1 ∧ (e'.2.1 = -1 ↔ cn = 0) ∧ TW (pI e.2.2 (gz g + 1) 4 hd) ρ2 a sc v (gz g) (gz g + 1) (gz g1) (gz g1 + 1) (gz g1 + 2) 10 m n k h e'.2.2 ∧ Fr (fun q => q = v) g e.2.2 ∧ Mf [59] [53, 57, 58, 61, 62, 63] (s_I σ 0 0) e'.2.2 ∧ (∀ i, i ≠ 5 → m_A e'.2.2 53 i = m_A (s_I σ 0 0) 53 i))
            (by
              rintro j ⟨q1, q2, g3⟩ ⟨p1, p2, σ3⟩ c d ⟨c0, d0, l, cn, e1, l1, l2, e3, e4, e5, u1, u2, u3, u4, u5, u6, u7⟩
              simp only at e1 e3 e4 u1 u2 u3 u4 u5 u6 u7 ⊢
              subst c0 d0 e3 e4 u1
              have hu4 : gI g3 (gz g) 4 = nI l := by
                have k1 : gI (pI g3 (gz g + 1) 4 hd) (gz g) 4 = m_I σ3 59 := u3.2.2.1.1.1
                rw [I_pI, if_neg (by rintro ⟨k, -⟩; exact hux k), e1] at k1
                exact k1
              have hku : gK g3 (gz g) = 10 := u3.2.1.1.1
              have hkx : gK g3 (gz g + 1) = 3 := u3.2.2.2.2.1.1
              have hrx : gR g3 (gz g) 0 = gz g + 1 + 1 := u3.2.1.2.1.1
              unfold X1_fits_b51 X4_fits_b53
              rw [e_wk hku, hu4, e1]
              by_cases hl : l ≤ 20
              · have hlt : ¬ (20 : Int32) < nI l := nI_nlt (b := l) (a := 20) hl (by omega)
                obtain ⟨r, g4, σ4, f1, f2, f3, f4, f5, f6, f7, f8, f9⟩ := u3.rs (T := T) (by rw [u5.Af (by decide)]; exact hs1) hT6
                have hF4 : Fr (fun q => q = v) g g4 := (u4.trans (Fr.pI (W := fun q => q = gz g + 1) rfl) (fun q hq k => by omega)).trans f6 (fun q hq k => by
                  rcases k with k | k | k | k
                  · exact k
                  · omega
                  · omega
                  · omega)
                have hM4 : Mf [59] [53, 57, 58, 61, 62, 63] (s_I σ 0 0) σ4 := u5.trans f8 (fun _ k => by cases k) (by decide)
                have hrow4 : ∀ i, m_A σ4 53 i = m_A σ3 53 i := f8.A (j := 53) (by decide)
                obtain ⟨w, s1, s2, s3⟩ := hp0.seen hF4 f5 (hM4.Af (by decide)) (hM4.I (by decide))
                have hT4 := f5.1
                have e14 : m_I σ4 59 = nI l := by rw [f8.I (by decide), e1]
                have hu44 : gI g4 (gz g) 4 = nI l := by rw [hT4.2.2.1.1.1, e14]
                have hT5 : TW (pI g4 (gz g) 4 (nI (l + 1))) ρ2 a sc v (gz g) (gz g + 1) (gz g1) (gz g1 + 1) (gz g1 + 2) 10 m n k h (s_I σ4 59 (nI (l + 1))) := hT4.pu (f := 4) (w := nI (l + 1)) (hT4.2.2.1.at4 (by rw [i_n (by omega)]; omega)) (Mf.sI (LI := [59, 60, 64]) (LA := []) (by decide))
                have hT6' : TW (pI (pI g4 (gz g) 4 (nI (l + 1))) (gz g + 1) 4 hd) ρ2 a sc v (gz g) (gz g + 1) (gz g1) (gz g1 + 1) (gz g1 + 2) 10 m n k h (s_I σ4 59 (nI (l + 1))) := by
                  have := hT5.px (f := 4) (f' := 5) (w := hd) (by omega) (hT5.2.2.2.2.2.2.put (by omega))
                  rw [sA_id (by rw [rA_sI, hrow4, u7])] at this
                  exact this
                have step : ∀ (cn' : Nat) (p2' : Int32), cn' ≤ cn + 1 → (p2' = -1 ↔ cn' = 0) → ∃ a' b'' dc dk m', m' < j ∧ X1_fits_j103 a what (gz g) (nI cn') p2' hd g4 = some (.inl a', dc, dk) ∧ X4_fits_j99 what was (nI cn') p2' hd σ4 = some (.inl b'') ∧ dc + 0 = 0 ∧ dk + 0 = 0 ∧ ∃ l cn, m_I b''.2.2 59 = nI l ∧ l ≤ 21 ∧ m' = 21 - l ∧ a'.1 = nI cn ∧ b''.1 = nI cn ∧ cn ≤ 21 * t + l ∧ a'.2.1 = b''.2.1 ∧ (b''.2.1 = -1 ↔ cn = 0) ∧ TW (pI a'.2.2 (gz g + 1) 4 hd) ρ2 a sc v (gz g) (gz g + 1) (gz g1) (gz g1 + 1) (gz g1 + 2) 10 m n k h b''.2.2 ∧ Fr (fun q => q = v) g a'.2.2 ∧ Mf [59] [53, 57, 58, 61, 62, 63] (s_I σ 0 0) b''.2.2 ∧ (∀ i, i ≠ 5 → m_A b''.2.2 53 i = m_A (s_I σ 0 0) 53 i) ∧ m_A b''.2.2 53 5 = hd := by
                  intro cn' p2' k1 k2
                  unfold X1_fits_j103 X4_fits_j99
                  rw [e_wk hT4.2.1.1.1, hu44, e14, nI_1]
                  exact ⟨_, _, 0, 0, j - 1, by omega, rfl, rfl, rfl, rfl, l + 1, cn', rfl, by omega, by omega, rfl, rfl, by omega, rfl, k2, hT6', hF4.trans (Fr.pI (W := fun q => q = gz g) rfl) (fun q hq k => by omega), hM4.trans (Mf.sI (LI := [59]) (LA := []) (by decide)) (fun _ k => k) (fun _ k => by cases k), fun i hi => by show m_A σ4 53 i = _; rw [hrow4, u6 i hi], by show m_A σ4 53 5 = _; rw [hrow4, u7]⟩
                rw [if_neg hlt, if_neg hlt, hrx, e_nn, e_wk hkx, f1, e_cb, e_wk hT4.2.1.1.1, f3, e_ob, s1, e_ob, s2, e_ob]
                rcases s3 with q | q
                · rw [q, if_pos rfl, if_pos rfl]
                  exact Or.inl (step cn _ (by omega) u2)
                · rw [q, if_neg nn01, if_neg nn01]
                  unfold X1_fits_j100
                  by_cases hc0 : cn = 0
                  · have hp2 : q2 = -1 := u2.mpr hc0
                    have hnz : ¬ (100 * (hd + 1) + nI l) = -1 := by
                      have q1 : (nI t).toInt = (t : Int) := i_n (by omega)
                      have q2 : (nI l).toInt = (l : Int) := i_n (by omega)
                      have k100 : ((100 : Int32)).toInt = 100 := by decide
                      have q3 : (100 * nI t).toInt = 100 * (t : Int) := by rw [i_mul (by rw [q1, k100]; omega) (by rw [q1, k100]; omega), q1, k100]
                      rw [hd1, i_eq, i_add (by rw [q3, q2]; omega) (by rw [q3, q2]; omega), q3, q2, k_n1]
                      omega
                    rw [if_pos hp2, hc0, if_pos (show nI 0 = 0 from rfl), e_wk hT4.2.1.1.1, hu44, e14]
                    have := step 1 (100 * (hd + 1) + nI l) (by omega) ⟨fun q => absurd q hnz, fun q => by omega⟩
                    rw [nI_1]
                    exact Or.inl this
                  · have hp2 : ¬ q2 = -1 := fun k => hc0 (u2.mp k)
                    rw [if_neg hp2, if_neg (nI_ne0 (by omega) (by omega)), nI_1]
                    exact Or.inl (step (cn + 1) q2 (by omega) ⟨fun q => absurd q hp2, fun q => by omega⟩)
              · have hlt : (20 : Int32) < nI l := nI_lt (a := 20) (b := l) (by omega) (by omega)
                rw [if_pos hlt, if_pos hlt]
                exact Or.inr ⟨_, _, 0, 0, rfl, rfl, rfl, rfl, cn, rfl, rfl, by omega, rfl, u2, u3, u4, u5, u6⟩)
            fu_ 21 (nI cnt, q2, pI g3 (gz g) 4 0) (nI cnt, q2, s_I (s_A σ3 53 5 hd) 59 0) 0 0 ⟨rfl, rfl, 0, cnt, rfl, by omega, rfl, rfl, rfl, by omega, rfl, u2, w2, u4.trans (Fr.pI (W := fun q => q = gz g) rfl) (fun q hq k => by omega), (u5.trans (Mf.sA (LI := []) (LA := [53]) (by decide)) (fun _ k => by cases k) (by decide)).trans (Mf.sI (LI := [59]) (LA := []) (by decide)) (fun _ k => k) (fun _ k => by cases k), fun i hi => by rw [rA_sI, rA_sA, if_neg (by rintro ⟨-, k⟩; exact hi k), u6 i hi], by rw [rA_sI, rA_sA, if_pos ⟨rfl, rfl⟩]⟩ (by unfold fu_; omega)
          obtain ⟨e1, e2, e3⟩ := e
          obtain ⟨f1, f2, f3⟩ := e'
          simp only at m5 m6 m8 m9 m10 m11 m12 m13
          obtain ⟨rfl⟩ : dc = 0 := by omega
          obtain ⟨rfl⟩ : ds = 0 := by omega
          subst m5 m6 m8
          rw [m1, e_oa, bp_0, m2, e_ob, hd1]
          refine Or.inl ⟨_, _, 0, 0, j - 1, by omega, rfl, rfl, rfl, rfl, t + 1, cn, hd, ?_, ?_, by omega, by omega, rfl, rfl, by omega, rfl, m9, m10, m11, m12, m13⟩
          · show nI t = nI (t + 1) - 1
            rw [← nI_1, Int32.add_sub_cancel]
          · show nI t = nI (t + 1) - 1
            rw [← nI_1, Int32.add_sub_cancel]
        · have hlt : nI h ≤ nI t - 1 := by rw [i_le, hti, i_n (by omega)]; omega
          rw [if_pos hlt, if_pos hlt]
          exact Or.inr ⟨_, _, 0, 0, rfl, rfl, rfl, rfl, rfl, rfl, u4, u5, u6⟩)
      fu_ (h + 1) (0, (-1), (-1), g2) (0, (-1), (-1), s_I σ 0 0) 0 0 ⟨rfl, rfl, 0, 0, was, rfl, rfl, by omega, rfl, rfl, rfl, by omega, rfl, ⟨fun _ => rfl, fun _ => rfl⟩, hT0, a5.mono (fun _ _ k => k.elim), Mf.rf, fun _ _ => rfl⟩ (by unfold fu_; omega)
    obtain ⟨e1, e2, e3⟩ := e
    obtain ⟨f1, f2, f3⟩ := e'
    simp only at m5 m6 m7 m8 m9
    obtain ⟨rfl⟩ : dc = 0 := by omega
    obtain ⟨rfl⟩ : ds = 0 := by omega
    subst m5 m6
    have hav : ¬ a = gz g := by have := hp.1.1.1.2.2.1; omega
    have hyv : ¬ y = gz g := by have := hp.2.1.2.1.2.2.1; omega
    have hM : MEq (s_I σ 0 0) (s_A (s_I f3 59 0) 53 5 (m_A (s_I σ 0 0) 53 5)) := by
      refine ⟨fun k hk => ?_, fun j hj => ?_⟩
      · rw [rI_sA, rI_sI]
        by_cases q : k = 59
        · rw [if_pos q, q]; exact hp0.2.2.1.1.symm
        · rw [if_neg q]
          exact m8.I (by simpa using q)
      · funext i
        rw [rA_sA, rA_sI]
        by_cases q : j = 53
        · subst q
          by_cases q2 : i = 5
          · rw [if_pos ⟨rfl, q2⟩, q2]; rfl
          · rw [if_neg (by rintro ⟨-, k⟩; exact q2 k)]; exact m9 i q2
        · rw [if_neg (by rintro ⟨k, -⟩; exact q k)]
          have hd : ∀ j, j ∈ relA → ¬ j = 53 → j ∉ [53, 57, 58, 61, 62, 63] := by decide
          exact m8.A (hd j hj q) i
    have hrel := hp0.q m7 a6 hM
    have hth : m_I (s_A (s_I f3 59 0) 53 5 (m_A (s_I σ 0 0) 53 5)) 0 = 0 := by rw [rI_sA, rI_sI, if_neg (by decide), m8.I (by decide)]; rfl
    rw [e_al, e_wk (by rw [K_nw, if_neg hav]; exact hp.1.1.1.1), R_nw, if_neg hav, hp.2.1.1, e_nn, e_wk (by rw [K_nw, if_neg hyv]; exact hp.2.1.2.1.1), a1, e_ca, a2, e_ca, m1, e_oa, bp_0, e_i5 (by omega) (by omega), cl_5, ← hwas, m2, e_ob, e_i5 (by omega) (by omega), hwas]
    by_cases hwh : what = 0
    · rw [if_pos hwh, if_pos hwh]
      exact OpT.ok (dc := 3 + dc1 + 1) (ds := 1803 + ds1 + 8) (by rw [e_b0, e_bp, e_bp]) rfl hrel (by omega) (by omega) hth
    · rw [if_neg hwh, if_neg hwh]
      exact OpT.ok (dc := 3 + dc1 + 1) (ds := 1803 + ds1 + 8) (by rw [e_b0, e_bp, e_bp]) rfl hrel (by omega) (by omega) hth
end
section
/-! LAWS: runs (own work) -/
set_option maxRecDepth 100000
/-- the model's fold over the tenths: how many soft runs, where the x-th began, how long it was -/
def rF (p : Nat → Bool) (x : Int32) (t : Nat) (s : Nat × Int32 × Int32) : Nat × Int32 × Int32 :=
  if p t = true then
    if t = 0 ∨ p (t - 1) = false then (s.1 + 1, if nI s.1 = x then nI t else s.2.1, if nI s.1 = x then s.2.2 + 1 else s.2.2)
    else (s.1, s.2.1, if nI s.1 - 1 = x then s.2.2 + 1 else s.2.2)
  else s
def rS (p : Nat → Bool) (x : Int32) (t : Nat) : Nat × Int32 × Int32 := it_ (rF p x) (0, -1, 0) t
theorem rS_s {p : Nat → Bool} {x : Int32} {t : Nat} : rS p x (t + 1) = rF p x t (rS p x t) := rfl
theorem nI_inj {a b : Nat} (ha : a < 2 ^ 31) (hb : b < 2 ^ 31) (h : nI a = nI b) : a = b := by
  have h1 := i_eq.mp h
  rw [i_n (by omega), i_n (by omega)] at h1
  omega
theorem nI_p (n : Nat) : nI (n + 1) - 1 = nI n := by rw [← nI_1, Int32.add_sub_cancel]
theorem rS_le {p : Nat → Bool} {x : Int32} : ∀ t, (rS p x t).1 ≤ t := by
  intro t
  induction t with
  | zero => exact Nat.le_refl 0
  | succ t ih =>
    rw [rS_s]
    unfold rF
    split
    · split
      · show (rS p x t).1 + 1 ≤ _; omega
      · show (rS p x t).1 ≤ _; omega
    · omega
/-- behind the x-th run nothing of it changes -/
theorem rS_later {p : Nat → Bool} {K t : Nat} (hK : (rS p (nI K) (t + 1)).1 = K + 1) (hp : p t = false) : ∀ d, t + 1 + d ≤ 700 → K + 1 ≤ (rS p (nI K) (t + 1 + d)).1 ∧ (rS p (nI K) (t + 1 + d)).2 = (rS p (nI K) (t + 1)).2 ∧ ((rS p (nI K) (t + 1 + d)).1 = K + 1 → p (t + d) = false) := by
  intro d
  induction d with
  | zero => intro _; exact ⟨by rw [Nat.add_zero, hK]; exact Nat.le_refl _, rfl, fun _ => hp⟩
  | succ d ih =>
    intro hd
    obtain ⟨h1, h2, h3⟩ := ih (by omega)
    have hle := rS_le (p := p) (x := nI K) (t + 1 + d)
    have e : t + 1 + (d + 1) = (t + 1 + d) + 1 := by omega
    have e2 : t + (d + 1) = t + 1 + d := by omega
    rw [e, e2, rS_s, ← h2]
    obtain ⟨⟨M, A, L⟩, hs⟩ : ∃ s, s = rS p (nI K) (t + 1 + d) := ⟨_, rfl⟩
    rw [← hs] at h1 h3 hle ⊢
    simp only at h1 h3 hle ⊢
    have h0 : t + 1 + d - 1 = t + d := by omega
    unfold rF
    by_cases q : p (t + 1 + d) = true
    · rw [if_pos q, h0]
      by_cases q2 : t + 1 + d = 0 ∨ p (t + d) = false
      · have hne : ¬ nI M = nI K := fun k => by have := nI_inj (by omega) (by omega) k; omega
        rw [if_pos q2, if_neg hne, if_neg hne]
        exact ⟨by show K + 1 ≤ M + 1; omega, rfl, fun k => by have k' : M + 1 = K + 1 := k; omega⟩
      · have hM : ¬ M = K + 1 := fun k => q2 (Or.inr (h3 k))
        have hne : ¬ nI M - 1 = nI K := fun k => by
          obtain ⟨M', rfl⟩ : ∃ M', M = M' + 1 := ⟨M - 1, by omega⟩
          rw [nI_p] at k
          have := nI_inj (by omega) (by omega) k
          omega
        rw [if_neg q2, if_neg hne]
        exact ⟨h1, rfl, fun k => absurd k hM⟩
    · rw [if_neg q]
      exact ⟨h1, rfl, fun _ => by simpa using q⟩
/-- the model's fold is that -/
theorem LaP.re {σ σ' : MS} {n T : Nat} (h : LaP σ n T) (e2 : m_I σ' 2 = m_I σ 2) (e9 : m_A σ' 9 = m_A σ 9) : LaP σ' n T := by
  obtain ⟨a, b, c, d⟩ := h
  exact ⟨by rw [e2, a], b, by rw [e9, c], d⟩
def rE (σ : MS) (s : Nat × Int32 × Int32) : MS := s_I (s_I (s_I σ 65 (nI s.1)) 66 s.2.1) 67 s.2.2
theorem rE_c {σ : MS} {s : Nat × Int32 × Int32} {M : Nat} {A L : Int32} : s_I (s_I (s_I (rE σ s) 65 (nI M)) 66 A) 67 L = rE σ (M, A, L) := by
  refine MS.ext' (fun k => ?_) rfl (fun _ _ => rfl)
  unfold rE
  simp only [rI_sI]
  by_cases h1 : k = 67 <;> by_cases h2 : k = 66 <;> by_cases h3 : k = 65 <;> simp [h1, h2, h3]
theorem rE_67 {σ : MS} {s : Nat × Int32 × Int32} {L : Int32} : s_I (rE σ s) 67 L = rE σ (s.1, s.2.1, L) := by unfold rE; rw [sI_sI]
theorem rE_I {σ : MS} {s : Nat × Int32 × Int32} : m_I (rE σ s) 65 = nI s.1 ∧ m_I (rE σ s) 66 = s.2.1 ∧ m_I (rE σ s) 67 = s.2.2 := ⟨rfl, rfl, rfl⟩
theorem rE_1 {σ : MS} {s : Nat × Int32 × Int32} : s_I (rE σ s) 65 (nI s.1 + 1) = rE σ (s.1 + 1, s.2.1, s.2.2) := by
  refine MS.ext' (fun k => ?_) rfl (fun _ _ => rfl)
  rw [nI_1]
  unfold rE
  simp only [rI_sI]
  by_cases h1 : k = 67 <;> by_cases h2 : k = 66 <;> by_cases h3 : k = 65 <;> simp [h1, h2, h3]
theorem rE_66 {σ : MS} {s : Nat × Int32 × Int32} {A : Int32} : s_I (rE σ s) 66 A = rE σ (s.1, A, s.2.2) := by
  refine MS.ext' (fun k => ?_) rfl (fun _ _ => rfl)
  unfold rE
  simp only [rI_sI]
  by_cases h1 : k = 67 <;> by_cases h2 : k = 66 <;> by_cases h3 : k = 65 <;> simp [h1, h2, h3]
theorem la_next {α ε : Type} {body : α → Option ((α ⊕ ε) × Nat × Nat)} {a b : α} (h : body a = some (.inl b, 0, 0)) (n : Nat) : la_ body (n + 1) a = la_ body n b := by
  rw [la_, h]
  exact bp_0
theorem la_end {α ε : Type} {body : α → Option ((α ⊕ ε) × Nat × Nat)} {a : α} {e : ε} (h : body a = some (.inr e, 0, 0)) (n : Nat) : la_ body (n + 1) a = some (e, 0, 0) := by
  unfold la_
  rw [h]
theorem findsRun_l {σ : MS} {n T : Nat} (h : LaP σ n T) (x : Int32) (p : Nat → Bool) (hp : ∀ t, p t = decide (sh_ (m_A σ 53 0) (m_A σ 63 t) = 0)) : X4_findsRun x σ = some (rE σ (rS p x (T + 1))) := by
  have hT := h.2.2.2
  obtain ⟨k1, -⟩ := for_l (enc := fun (c : Nat × Int32 × Int32) t => (nI t, rE σ c)) (fun a : Int32 × MS => X4_findsRun_b17 x a.1 a.2) T (rF p x) (fun c => rE σ c) (fun _ _ => True) (fun _ _ _ _ => trivial)
    (fun t c ht _ => by
      show X4_findsRun_b17 x (nI t) (rE σ c) = _
      have hL : LaP (rE σ c) n T := h.re rfl rfl
      have hs : ∀ s, s ≤ 600 → X4_isSharp (nI s) (rE σ c) = some (sh_ (m_A σ 53 0) (m_A σ 63 s)) := fun s hs => X4_isSharp_l hs
      have hpf : ∀ s, p s = false → sh_ (m_A σ 53 0) (m_A σ 63 s) = 1 := fun s q => by
        rw [hp] at q
        rcases sh_01 (hole := m_A σ 53 0) (v := m_A σ 63 s) with k | k
        · rw [k] at q; simp at q
        · exact k
      have hpt : ∀ s, p s = true → sh_ (m_A σ 53 0) (m_A σ 63 s) = 0 := fun s q => by
        rw [hp] at q
        simpa using q
      have h82 : X4_findsRun_j82 x (nI t) (rE σ c) = some (Sum.inl (nI (t + 1), rE σ (c.1, c.2.1, if nI c.1 - 1 = x then c.2.2 + 1 else c.2.2))) := by
        unfold X4_findsRun_j82 X4_findsRun_j102 X4_findsRun_j106
        rw [rE_I.1, rE_I.2.2, rE_67, rE_67, nI_1]
        by_cases q : nI c.1 - 1 = x
        · rw [if_pos q, if_pos q]
        · rw [if_neg q, if_neg q, Int32.add_zero]
      have h82' : ∀ c' : Nat × Int32 × Int32, X4_findsRun_j82 x (nI t) (rE σ c') = some (Sum.inl (nI (t + 1), rE σ (c'.1, c'.2.1, if nI c'.1 - 1 = x then c'.2.2 + 1 else c'.2.2))) := by
        intro c
        unfold X4_findsRun_j82 X4_findsRun_j102 X4_findsRun_j106
        rw [rE_I.1, rE_I.2.2, rE_67, rE_67, nI_1]
        by_cases q : nI c.1 - 1 = x
        · rw [if_pos q, if_pos q]
        · rw [if_neg q, if_neg q, Int32.add_zero]
      have h50 : X4_findsRun_j50 x (nI t) (rE σ c) = some (Sum.inl (nI (t + 1), rE σ (c.1 + 1, if nI c.1 = x then nI t else c.2.1, if nI c.1 = x then c.2.2 + 1 else c.2.2))) := by
        unfold X4_findsRun_j50 X4_findsRun_j79
        rw [rE_I.1, rE_1, rE_I.2.1, rE_66, rE_66, h82', h82', nI_1]
        simp only [nI_p]
        by_cases q : nI c.1 = x
        · rw [if_pos q, if_pos q]; simp only [if_pos q]
        · rw [if_neg q, if_neg q]; simp only [if_neg q]
      unfold X4_findsRun_b17 rF
      rw [hL.l, e_ob, if_neg (nI_nlt ht (by omega)), hs t (by omega), e_ob]
      by_cases q : p t = true
      · rw [hpt t q, if_pos rfl, if_pos q]
        by_cases q0 : t = 0
        · rw [q0] at h50 ⊢
          rw [if_pos (show nI 0 = 0 from rfl), h50, if_pos (Or.inl rfl)]
        · obtain ⟨u, rfl⟩ : ∃ u, t = u + 1 := ⟨t - 1, by omega⟩
          rw [if_neg (nI_ne0 (by omega) (by omega)), nI_p, hs u (by omega), e_ob]
          have hu : u + 1 - 1 = u := by omega
          rw [hu]
          cases q2 : p u with
          | true => rw [hpt u q2, if_pos rfl, h82, if_neg (show ¬ (u + 1 = 0 ∨ true = false) by simp)]
          | false => rw [hpf u q2, if_neg nn01, h50, if_pos (Or.inr rfl)]
      · have q' : p t = false := by simpa using q
        rw [hpf t q', if_neg nn01, if_neg q]
        unfold X4_findsRun_j106
        rw [nI_1])
    (fun c _ => by
      show X4_findsRun_b17 x (nI (T + 1)) (rE σ c) = _
      have hL : LaP (rE σ c) n T := h.re rfl rfl
      unfold X4_findsRun_b17
      rw [hL.l, e_ob, if_pos (nI_lt (by omega) (by omega))]) (0, -1, 0) trivial (n := fu_) (by unfold fu_; omega)
  unfold X4_findsRun
  rw [show (lp_ (fun a : Int32 × MS => X4_findsRun_b17 x a.1 a.2) fu_ (0, s_I (s_I (s_I σ 65 0) 66 (-1)) 67 0)) = _ from k1, e_ob]
  rfl
/-- the component's loop -/
theorem runs_c {g : GS} {a u sc T : Nat} (x what : Int32) (p : Nat → Bool) (hT : T ≤ 600) (h1 : gK g a = 1) (h2 : gR g a 0 = sc + 1) (h3 : gK g sc = 2) (h4 : gI g sc 6 = nI T) (h5 : gK g u = 10)
    (hs : ∀ t, t ≤ T → X11_isSharp_2 u (nI t) g = some (if p t = true then 0 else 1)) :
    ∃ e, la_ (fun a1 : Int32 × Int32 × Int32 × GS => X1_runs_b19 a x what u a1.1 a1.2.1 a1.2.2.1 a1.2.2.2) fu_ (0, 0, 0, g) = some (e, 0, 0) ∧
      ((∃ K sz t, e = .inl (nI sz, nI t, g) ∧ x = nI K ∧ K < (rS p x (T + 1)).1 ∧ (rS p x (T + 1)).2.1 = nI t - nI sz ∧ (rS p x (T + 1)).2.2 = nI sz) ∨ (e = .inr (nI (rS p x (T + 1)).1, g) ∧ ∀ k, k < (rS p x (T + 1)).1 → nI k ≠ x)) := by
  have key : ∀ d t n sz, t + d = T + 2 → n ≤ t → sz ≤ t → (∀ k, k < n → nI k ≠ x) →
      ((∀ k, k < (rS p x (min t (T + 1))).1 → nI k ≠ x) → (rS p x (min t (T + 1))).2.2 = 0) →
      (sz = 0 → (t = 0 ∨ p (t - 1) = false ∨ t = T + 2 ∨ t = T + 1 ∧ p T = false) ∧ (rS p x (min t (T + 1))).1 = n) →
      (0 < sz → 1 ≤ t ∧ t ≤ T + 1 ∧ p (t - 1) = true ∧ (rS p x t).1 = n + 1 ∧ (nI n = x → (rS p x t).2.1 = nI t - nI sz ∧ (rS p x t).2.2 = nI sz)) →
      ∀ f, d < f → ∃ e, la_ (fun a1 : Int32 × Int32 × Int32 × GS => X1_runs_b19 a x what u a1.1 a1.2.1 a1.2.2.1 a1.2.2.2) f (nI n, nI sz, nI t, g) = some (e, 0, 0) ∧
      ((∃ K sz t, e = .inl (nI sz, nI t, g) ∧ x = nI K ∧ K < (rS p x (T + 1)).1 ∧ (rS p x (T + 1)).2.1 = nI t - nI sz ∧ (rS p x (T + 1)).2.2 = nI sz) ∨ (e = .inr (nI (rS p x (T + 1)).1, g) ∧ ∀ k, k < (rS p x (T + 1)).1 → nI k ≠ x)) := by
    intro d
    induction d with
    | zero =>
      intro t n sz ht hn hsz i1 i2 i3 i4 f hf
      obtain rfl : t = T + 2 := by omega
      obtain ⟨f', rfl⟩ : ∃ f', f = f' + 1 := ⟨f - 1, by omega⟩
      have hz : sz = 0 := by
        rcases Nat.eq_zero_or_pos sz with k | k
        · exact k
        · have := (i4 k).2.1; omega
      have hm : min (T + 2) (T + 1) = T + 1 := by omega
      obtain ⟨-, i3'⟩ := i3 hz
      rw [hm] at i3'
      refine ⟨.inr (nI n, g), ?_, Or.inr ⟨by rw [i3'], by rw [i3']; exact i1⟩⟩
      refine la_end ?_ f'
      show X1_runs_b19 a x what u (nI n) (nI sz) (nI (T + 2)) g = _
      unfold X1_runs_b19
      rw [e_wk h1, h2, e_nn, e_wk h3, h4, nI_1, if_pos (nI_lt (by omega) (by omega))]
    | succ d ih =>
      intro t n sz ht hn hsz i1 i2 i3 i4 f hf
      obtain ⟨f', rfl⟩ : ∃ f', f = f' + 1 := ⟨f - 1, by omega⟩
      have ht1 : t ≤ T + 1 := by omega
      have hmt : min t (T + 1) = t := by omega
      rw [hmt] at i2 i3
      have go : ∀ n' sz', X1_runs_b19 a x what u (nI n) (nI sz) (nI t) g = some (.inl (nI n', nI sz', nI (t + 1), g), 0, 0) → n' ≤ t + 1 → sz' ≤ t + 1 → (∀ k, k < n' → nI k ≠ x) →
          ((∀ k, k < (rS p x (min (t + 1) (T + 1))).1 → nI k ≠ x) → (rS p x (min (t + 1) (T + 1))).2.2 = 0) →
          (sz' = 0 → (t + 1 = 0 ∨ p (t + 1 - 1) = false ∨ t + 1 = T + 2 ∨ t + 1 = T + 1 ∧ p T = false) ∧ (rS p x (min (t + 1) (T + 1))).1 = n') →
          (0 < sz' → 1 ≤ t + 1 ∧ t + 1 ≤ T + 1 ∧ p (t + 1 - 1) = true ∧ (rS p x (t + 1)).1 = n' + 1 ∧ (nI n' = x → (rS p x (t + 1)).2.1 = nI (t + 1) - nI sz' ∧ (rS p x (t + 1)).2.2 = nI sz')) →
          ∃ e, la_ (fun a1 : Int32 × Int32 × Int32 × GS => X1_runs_b19 a x what u a1.1 a1.2.1 a1.2.2.1 a1.2.2.2) (f' + 1) (nI n, nI sz, nI t, g) = some (e, 0, 0) ∧
          ((∃ K sz t, e = .inl (nI sz, nI t, g) ∧ x = nI K ∧ K < (rS p x (T + 1)).1 ∧ (rS p x (T + 1)).2.1 = nI t - nI sz ∧ (rS p x (T + 1)).2.2 = nI sz) ∨ (e = .inr (nI (rS p x (T + 1)).1, g) ∧ ∀ k, k < (rS p x (T + 1)).1 → nI k ≠ x)) := by
        intro n' sz' hb b1 b2 b3 b4 b5 b6
        obtain ⟨e, c1, c2⟩ := ih (t + 1) n' sz' (by omega) b1 b2 b3 b4 b5 b6 f' (by omega)
        refine ⟨e, ?_, c2⟩
        rw [la_next (b := (nI n', nI sz', nI (t + 1), g)) hb f']
        exact c1
      have hnT : ¬ nI (T + 1) < nI t := nI_nlt (by omega) (by omega)
      -- a tenth that ends a run, or nothing
      have ends : X1_runs_b19 a x what u (nI n) (nI sz) (nI t) g = X1_runs_j60 a x what u (nI n) (nI sz) (nI t) g → (t ≤ T → p t = false) → ∃ e, la_ (fun a1 : Int32 × Int32 × Int32 × GS => X1_runs_b19 a x what u a1.1 a1.2.1 a1.2.2.1 a1.2.2.2) (f' + 1) (nI n, nI sz, nI t, g) = some (e, 0, 0) ∧
          ((∃ K sz t, e = .inl (nI sz, nI t, g) ∧ x = nI K ∧ K < (rS p x (T + 1)).1 ∧ (rS p x (T + 1)).2.1 = nI t - nI sz ∧ (rS p x (T + 1)).2.2 = nI sz) ∨ (e = .inr (nI (rS p x (T + 1)).1, g) ∧ ∀ k, k < (rS p x (T + 1)).1 → nI k ≠ x)) := by
        intro hb hpt
        have hsame : rS p x (min (t + 1) (T + 1)) = rS p x t := by
          by_cases q : t ≤ T
          · rw [show min (t + 1) (T + 1) = t + 1 by omega, rS_s]
            unfold rF
            rw [hpt q, if_neg (by simp)]
          · rw [show min (t + 1) (T + 1) = t by omega]
        have hprev : t + 1 = 0 ∨ p (t + 1 - 1) = false ∨ t + 1 = T + 2 ∨ t + 1 = T + 1 ∧ p T = false := by
          by_cases q : t ≤ T
          · exact Or.inr (Or.inl (by rw [Nat.add_sub_cancel]; exact hpt q))
          · exact Or.inr (Or.inr (Or.inl (by omega)))
        unfold X1_runs_j60 at hb
        rcases Nat.eq_zero_or_pos sz with hz | hz
        · obtain ⟨-, e3⟩ := i3 hz
          subst hz
          rw [if_pos (show nI 0 ≤ 0 by decide)] at hb
          unfold X1_runs_j86 X1_runs_j94 X1_runs_j97 at hb
          rw [if_pos (show nI 0 ≤ 0 by decide), nI_1] at hb
          refine go n 0 hb (by omega) (by omega) i1 (by rw [hsame]; exact i2) (fun _ => ⟨hprev, by rw [hsame]; exact e3⟩) (fun k => by omega)
        · obtain ⟨j1, j2, j3, j4, j5⟩ := i4 hz
          rw [if_neg (nI_nle hz (by omega))] at hb
          by_cases hx : nI n = x
          · rw [if_pos hx] at hb
            obtain ⟨j6, j7⟩ := j5 hx
            refine ⟨.inl (nI sz, nI t, g), ?_, Or.inl ⟨n, sz, t, rfl, hx.symm, ?_⟩⟩
            · exact la_end hb f'
            · by_cases q : t ≤ T
              · have hsm : rS p x (t + 1) = rS p x t := by
                  rw [rS_s]
                  unfold rF
                  rw [hpt q, if_neg (by simp)]
                subst hx
                obtain ⟨l1, l2, -⟩ := rS_later (p := p) (K := n) (t := t) (by rw [hsm, j4]) (hpt q) (T - t) (by omega)
                rw [show t + 1 + (T - t) = T + 1 by omega] at l1 l2
                exact ⟨by omega, by rw [l2, hsm, j6], by rw [l2, hsm, j7]⟩
              · rw [show T + 1 = t by omega]
                exact ⟨by omega, j6, j7⟩
          · rw [if_neg hx] at hb
            unfold X1_runs_j86 X1_runs_j94 X1_runs_j97 at hb
            rw [if_neg (nI_nle hz (by omega)), nI_1, nI_1] at hb
            refine go (n + 1) 0 hb (by omega) (by omega) (fun k hk => ?_) (by rw [hsame]; exact i2) (fun _ => ⟨hprev, by rw [hsame]; exact j4⟩) (fun k => by omega)
            rcases Nat.lt_or_ge k n with q | q
            · exact i1 k q
            · rw [show k = n by omega]; exact hx
      by_cases hTt : t ≤ T
      · have hn2 : ¬ nI T < nI t := nI_nlt (by omega) (by omega)
        by_cases hpt : p t = true
        · have hb : X1_runs_b19 a x what u (nI n) (nI sz) (nI t) g = some (.inl (nI n, nI (sz + 1), nI (t + 1), g), 0, 0) := by
            unfold X1_runs_b19 X1_runs_j97
            rw [e_wk h1, h2, e_nn, e_wk h3, h4, nI_1, if_neg hnT, e_nn, e_wk h3, h4, if_neg hn2, e_wk h5, hs t hTt, if_pos hpt, e_ob, if_pos rfl, nI_1, nI_1]
          have hm1 : min (t + 1) (T + 1) = t + 1 := by omega
          rcases Nat.eq_zero_or_pos sz with hz | hz
          · obtain ⟨e2, e3⟩ := i3 hz
            have hcond : t = 0 ∨ p (t - 1) = false := by
              rcases e2 with k | k | k | ⟨k, -⟩
              · exact Or.inl k
              · exact Or.inr k
              · omega
              · omega
            have hnew : rS p x (t + 1) = (n + 1, if nI n = x then nI t else (rS p x t).2.1, if nI n = x then (rS p x t).2.2 + 1 else (rS p x t).2.2) := by
              rw [rS_s]
              unfold rF
              rw [if_pos hpt, if_pos hcond, e3]
            refine go n (sz + 1) hb (by omega) (by omega) i1 ?_ (fun k => by omega) (fun _ => ⟨by omega, by omega, by rw [Nat.add_sub_cancel]; exact hpt, by rw [hnew], fun hx => ?_⟩)
            · rw [hm1, hnew]
              intro hk
              have hx : ¬ nI n = x := hk n (by show n < n + 1; omega)
              show (if nI n = x then (rS p x t).2.2 + 1 else (rS p x t).2.2) = 0
              rw [if_neg hx]
              exact i2 (by rw [e3]; exact i1)
            · rw [hnew]
              show (if nI n = x then nI t else (rS p x t).2.1) = _ ∧ (if nI n = x then (rS p x t).2.2 + 1 else (rS p x t).2.2) = _
              rw [if_pos hx, if_pos hx, i2 (by rw [e3]; exact i1), hz]
              exact ⟨by rw [show nI (0 + 1) = 1 from rfl, nI_p], rfl⟩
          · obtain ⟨j1, j2, j3, j4, j5⟩ := i4 hz
            have hcond : ¬ (t = 0 ∨ p (t - 1) = false) := by
              rintro (k | k)
              · omega
              · rw [j3] at k; cases k
            have hnew : rS p x (t + 1) = (n + 1, (rS p x t).2.1, if nI n = x then (rS p x t).2.2 + 1 else (rS p x t).2.2) := by
              rw [rS_s]
              unfold rF
              rw [if_pos hpt, if_neg hcond, j4, nI_p]
            refine go n (sz + 1) hb (by omega) (by omega) i1 ?_ (fun k => by omega) (fun _ => ⟨by omega, by omega, by rw [Nat.add_sub_cancel]; exact hpt, by rw [hnew], fun hx => ?_⟩)
            · rw [hm1, hnew]
              intro hk
              have hx : ¬ nI n = x := hk n (by show n < n + 1; omega)
              show (if nI n = x then (rS p x t).2.2 + 1 else (rS p x t).2.2) = 0
              rw [if_neg hx]
              exact i2 (by rw [j4]; exact hk)
            · obtain ⟨j6, j7⟩ := j5 hx
              rw [hnew]
              show (rS p x t).2.1 = _ ∧ (if nI n = x then (rS p x t).2.2 + 1 else (rS p x t).2.2) = _
              rw [if_pos hx, j6, j7, nI_1]
              refine ⟨?_, rfl⟩
              rw [← nI_1, ← nI_1]
              rw [Int32.sub_eq_add_neg, Int32.sub_eq_add_neg, Int32.neg_add, Int32.add_assoc, Int32.sub_eq_add_neg, Int32.add_comm (-nI sz) (-1), ← Int32.add_assoc 1, Int32.add_right_neg, Int32.zero_add]
        · refine ends ?_ (fun _ => by simpa using hpt)
          unfold X1_runs_b19
          rw [e_wk h1, h2, e_nn, e_wk h3, h4, nI_1, if_neg hnT, e_nn, e_wk h3, h4, if_neg hn2, e_wk h5, hs t hTt, if_neg hpt, e_ob, if_neg nn01]
      · refine ends ?_ (fun k => absurd k hTt)
        have hn2 : nI T < nI t := nI_lt (by omega) (by omega)
        unfold X1_runs_b19
        rw [e_wk h1, h2, e_nn, e_wk h3, h4, nI_1, if_neg hnT, e_nn, e_wk h3, h4, if_pos hn2]
  exact key (T + 2) 0 0 0 (by omega) (Nat.le_refl _) (Nat.le_refl _) (fun k hk => by omega) (fun _ => rfl) (fun _ => ⟨Or.inl rfl, rfl⟩) (fun k => by omega) fu_ (by unfold fu_; omega)
theorem op_runs {a o : Nat} {g : GS} {σ : MS} (hr : Rel a o g σ) (x what : Int32) : OpT [(1, 1)] a o (X1_runs a x what g) (X4_runs x what σ) := by
  obtain ⟨ρ, sc, v, n, k, h, y, m, T, hp⟩ := hr
  have hp0 := hp.m (s0_eq (c := 0))
  unfold X1_runs X4_runs
  cases hw : wi_ what 0 1 with
  | false =>
    refine OpT.ex (e := 1) (q := gz g) (r := 0) (g' := g) (σ' := s_I (s_I σ 0 0) 0 1) (dc := 1) (ds := 6) ?_ ?_ (hp0.r s0_eq) (by omega) (by omega) (List.mem_cons_self)
    · rw [X1_oneOf_f hw, e_tcr, e_b0]
    · rw [X4_isWhat_f s0_0 hw, e_cb, if_pos rfl]
  | true =>
    rw [X1_oneOf_t hw, e_tcl, bp_0, X4_isWhat_t s0_0 hw, e_cb, if_neg nn01]
    obtain ⟨g1, σ1, b1, b2, b3, b4, b5, b6⟩ := take_l hp0
    have hT6 := b3.2.2.2
    have hx := b3.x
    have hof := b3.of
    have hla := b3.la
    have hcw := b3.1.1
    obtain ⟨p, hpd⟩ : ∃ p : Nat → Bool, ∀ t, p t = decide (sh_ (m_A σ1 53 0) (m_A σ1 63 t) = 0) := ⟨_, fun _ => rfl⟩
    have hf := findsRun_l hla x p hpd
    obtain ⟨e, c1, c2⟩ := runs_c (g := g1) (a := a) (u := gz g) (sc := sc) x what p hT6 hcw.1.1 hcw.1.2.2.2.1 hcw.2.2.2.1.1 (by rw [hcw.2.2.2.1.2.2.2.2, b3.2.2.1]) hx.2.2.2.1 (fun t ht => by
      rw [X11_isSharp2_l hof hx.1 hx.2.1 ht, hx.2.2.1, hpd]
      rcases sh_01 (hole := m_A σ1 53 0) (v := m_A σ1 63 t) with q | q
      · rw [q]; rfl
      · rw [q]; rfl)
    have hM : ∀ s, Mf [65, 66, 67] [57, 58, 61, 62, 63] (s_I σ 0 0) (rE σ1 s) := fun s => by
      refine ⟨fun k hk => ?_, fun j hj i => b6.A hj i⟩
      rw [← b6.I (show k ∉ [] by simp)]
      unfold rE
      rw [rI_sI, rI_sI, rI_sI, if_neg (fun q => hk (by simp [q])), if_neg (fun q => hk (by simp [q])), if_neg (fun q => hk (by simp [q]))]
    have hrel := hp0.q b4 (nr_ag (r := 9)) ((hM (rS p x (T + 1))).eq (by decide) (by decide))
    have hth : m_I (rE σ1 (rS p x (T + 1))) 0 = 0 := by rw [(hM _).I (by decide)]; rfl
    have hMle := rS_le (p := p) (x := x) (T + 1)
    rw [e_wk hp.1.1.1.1, b1, e_ca, c1, e_oa, bp_0, b2, e_ob, hf, e_ob]
    rcases c2 with ⟨K, sz, t, rfl, rfl, hK, hA, hL⟩ | ⟨rfl, hno⟩
    · have h1 : ¬ nI K < -1 := by rw [i_lt, i_n (by omega), k_n1]; omega
      have h2 : ¬ nI (rS p (nI K) (T + 1)).1 ≤ nI K := nI_ge hK (by omega)
      have h3 : ¬ nI K = -1 := by rw [i_eq, i_n (by omega), k_n1]; omega
      rw [if_neg h1, rE_I.1, if_neg h2]
      unfold X4_runs_j44
      rw [X4_right1 hth, e_cb, if_neg nn01, if_neg h3, rE_I.2.1, rE_I.2.2, hA, hL]
      by_cases hwh : what = 0
      · rw [if_pos hwh]
        refine OpT.ok (dc := 4) (ds := 1811) ?_ rfl hrel (by omega) (by omega) hth
        show bp_ 4 1811 (if what = 0 then _ else _) = _
        rw [if_pos hwh, e_b0]
      · rw [if_neg hwh]
        refine OpT.ok (dc := 4) (ds := 1811) ?_ rfl hrel (by omega) (by omega) hth
        show bp_ 4 1811 (if what = 0 then _ else _) = _
        rw [if_neg hwh, e_b0]
    · show OpT _ _ _ (bp_ 4 1811 (if x = -1 then X1_runs_j113 (nI (rS p x (T + 1)).1) 1 g1 else X1_runs_j113 (nI (rS p x (T + 1)).1) 0 g1)) _
      unfold X1_runs_j113
      by_cases hx1 : x = -1
      · have h1 : ¬ x < -1 := by rw [hx1]; decide
        have h2 : ¬ nI (rS p x (T + 1)).1 ≤ x := by rw [i_le, i_n (by omega), hx1, k_n1]; omega
        rw [if_neg h1, rE_I.1, if_neg h2]
        unfold X4_runs_j44
        rw [X4_right1 hth, e_cb, if_neg nn01, if_pos hx1, if_pos hx1, X1_found_t, e_tcl, bp_0, rE_I.1]
        exact OpT.ok (dc := 4) (ds := 1811) (by rw [e_b0]) rfl hrel (by omega) (by omega) hth
      · have hbad : OpT [(1, 1)] a o (bp_ 4 1811 (tc_ (X1_found 0 g1) (fun e37 g36 => some ((.inr e37, g36), 0, 0)) fun r35 g36 => some ((.inl (nI (rS p x (T + 1)).1), g36), 0, 0))) (X4_runs_j43 x what (rE σ1 (rS p x (T + 1)))) := by
          unfold X4_runs_j43 X4_runs_j44
          rw [X1_found_f, e_tcr, e_b0, e_bp, X4_right0 hth (by decide), e_cb, if_pos rfl]
          refine OpT.ex (dc := 1 + 4) (ds := 6 + 1811) rfl rfl ?_ (by omega) (by omega) List.mem_cons_self
          obtain ⟨ρ', sc', v', n', k', h', y', m', T', hp'⟩ := hrel
          exact hp'.r s0_eq
        rw [if_neg hx1]
        by_cases h1 : x < -1
        · rw [if_pos h1]; exact hbad
        · have h2 : nI (rS p x (T + 1)).1 ≤ x := by
            rcases Int.lt_or_le x.toInt 0 with q | q
            · rw [i_lt, k_n1] at h1
              rw [i_eq, k_n1] at hx1
              omega
            · obtain ⟨K, rfl, q2, q3⟩ := i_nat q
              rcases Nat.lt_or_ge K (rS p (nI K) (T + 1)).1 with q4 | q4
              · exact absurd rfl (hno K q4)
              · exact nI_le q4 (by omega)
          rw [if_neg h1, rE_I.1, if_pos h2]; exact hbad
end
section
/-! LAWS: next, middle (own work) -/
set_option maxRecDepth 100000
theorem mod_l {a b : Nat} (ha : a < 2 ^ 31) (hb : b < 2 ^ 31) : nI a - nI a / nI b * nI b = nI (a % b) := by
  have e1 : nI a / nI b = nI (a / b) := (Int32.ofNat_div (by omega) (by omega)).symm
  have e2 : nI (a / b) * nI b = nI (a / b * b) := (Int32.ofNat_mul _ _).symm
  have h1 : a / b * b ≤ a := Nat.div_mul_le_self a b
  have h2 : a % b = a - a / b * b := by
    have := Nat.div_add_mod a b
    rw [Nat.mul_comm] at this
    omega
  rw [e1, e2, i_eq, i_sub (by rw [i_n (by omega), i_n (by omega)]; omega) (by rw [i_n (by omega), i_n (by omega)]; omega), i_n (by omega), i_n (by omega), i_n (by omega)]
  omega
theorem gcd_l (x0 x1 x2 : Int32) : ∀ k a b : Nat, b ≤ k → a < 2 ^ 31 → b < 2 ^ 31 → ∃ r, X1_common_r (k + 1) (nI a) (nI b) = some (nI r) ∧ (∀ n, k < n → lp_ (fun a : Int32 × Int32 => X4_portion_b5 x0 x1 x2 a.1 a.2) n (nI a, nI b) = some (nI r)) ∧ (0 < a ∨ 0 < b → 0 < r) ∧ r < 2 ^ 31 := by
  intro k
  induction k with
  | zero =>
    intro a b hk ha hb
    obtain rfl : b = 0 := by omega
    refine ⟨a, ?_, fun n hn => ?_, fun h => by omega, ha⟩
    · unfold X1_common_r X1_common_b
      rw [if_pos (show nI 0 = 0 from rfl)]
    · obtain ⟨f, rfl⟩ : ∃ f, n = f + 1 := ⟨n - 1, by omega⟩
      refine lp_end ?_ f
      show X4_portion_b5 x0 x1 x2 (nI a) (nI 0) = _
      unfold X4_portion_b5
      rw [if_pos (show nI 0 = 0 from rfl)]
  | succ k ih =>
    intro a b hk ha hb
    rcases Nat.eq_zero_or_pos b with rfl | hb0
    · refine ⟨a, ?_, fun n hn => ?_, fun h => by omega, ha⟩
      · unfold X1_common_r X1_common_b
        rw [if_pos (show nI 0 = 0 from rfl)]
      · obtain ⟨f, rfl⟩ : ∃ f, n = f + 1 := ⟨n - 1, by omega⟩
        refine lp_end ?_ f
        show X4_portion_b5 x0 x1 x2 (nI a) (nI 0) = _
        unfold X4_portion_b5
        rw [if_pos (show nI 0 = 0 from rfl)]
    · have hm := Nat.mod_lt a hb0
      obtain ⟨r, r1, r2, r3, r4⟩ := ih b (a % b) (by omega) hb (by omega)
      refine ⟨r, ?_, fun n hn => ?_, fun _ => r3 (Or.inl hb0), r4⟩
      · unfold X1_common_r X1_common_b
        rw [if_neg (nI_ne0 hb0 hb), e_dv (nI_ne0 hb0 hb), mod_l ha hb, r1, e_ob]
      · obtain ⟨f, rfl⟩ : ∃ f, n = f + 1 := ⟨n - 1, by omega⟩
        rw [lp_next (b := (nI b, nI (a % b))), r2 f (by omega)]
        show X4_portion_b5 x0 x1 x2 (nI a) (nI b) = _
        unfold X4_portion_b5
        rw [if_neg (nI_ne0 hb0 hb), e_dv (nI_ne0 hb0 hb), mod_l ha hb]
theorem part_l {s z : Nat} (hs : s < 2 ^ 31) (hz1 : 1 ≤ z) (hz : z ≤ 16) (what : Int32) : ∃ r, X1_part (nI s) (nI z) what = some r ∧ X4_portion (nI s) (nI z) what = some r := by
  obtain ⟨r, r1, r2, r3, r4⟩ : ∃ r, X1_common_r 40 (nI z) (nI s) = some (nI r) ∧ lp_ (fun a : Int32 × Int32 => X4_portion_b5 (nI s) (nI z) what a.1 a.2) fu_ (nI z, nI s) = some (nI r) ∧ 0 < r ∧ r < 2 ^ 31 := by
    rcases Nat.eq_zero_or_pos s with rfl | hs0
    · obtain ⟨r, r1, r2, r3, r4⟩ := gcd_l (nI 0) (nI z) what 39 z 0 (by omega) (by omega) (by omega)
      exact ⟨r, r1, r2 fu_ (by unfold fu_; omega), r3 (Or.inl hz1), r4⟩
    · have hm : z % s ≤ z := Nat.mod_le z s
      obtain ⟨r, r1, r2, r3, r4⟩ := gcd_l (nI s) (nI z) what 38 s (z % s) (by omega) hs (by omega)
      refine ⟨r, ?_, ?_, r3 (Or.inl hs0), r4⟩
      · show X1_common_b (X1_common_r 39) (nI z) (nI s) = _
        unfold X1_common_b
        rw [if_neg (nI_ne0 hs0 hs), e_dv (nI_ne0 hs0 hs), mod_l (by omega) hs, r1, e_ob]
      · have hf : fu_ = (fu_ - 1) + 1 := by unfold fu_; omega
        rw [hf, lp_next (b := (nI s, nI (z % s))), r2 _ (by unfold fu_; omega)]
        show X4_portion_b5 (nI s) (nI z) what (nI z) (nI s) = _
        unfold X4_portion_b5
        rw [if_neg (nI_ne0 hs0 hs), e_dv (nI_ne0 hs0 hs), mod_l (by omega) hs]
  unfold X1_part X4_portion X1_part_j15 X1_common
  rw [if_neg (nI_ne0 (by omega) (by omega)), r1, r2, e_ob, e_ob, e_ob]
  simp only [e_dv (nI_ne0 r3 r4)]
  by_cases h : what = 0
  · rw [if_pos h]
    exact ⟨_, rfl, rfl⟩
  · rw [if_neg h]
    exact ⟨_, rfl, rfl⟩
theorem part_0 (what : Int32) (h : what = 0 ∨ what = 1) : X1_part (nI 0) (nI 0) what = some what ∧ X4_portion (nI 0) 1 what = some what := by
  refine ⟨by unfold X1_part; rw [if_pos (show nI 0 = 0 from rfl)], ?_⟩
  have e : X4_portion (nI 0) 1 what = _ := rfl
  obtain ⟨r, -, r2, -⟩ := gcd_l (nI 0) 1 what 39 1 0 (by omega) (by omega) (by omega)
  have r3 : lp_ (fun a : Int32 × Int32 => X4_portion_b5 (nI 0) 1 what a.1 a.2) fu_ (1, nI 0) = some 1 := by
    have hf : fu_ = (fu_ - 1) + 1 := by unfold fu_; omega
    rw [hf]
    refine lp_end ?_ _
    show X4_portion_b5 (nI 0) 1 what 1 (nI 0) = _
    unfold X4_portion_b5
    rw [if_pos (show nI 0 = 0 from rfl)]
  unfold X4_portion
  rw [r3, e_ob, e_dv nn01, e_dv nn01]
  rcases h with rfl | rfl
  · rw [if_pos rfl]; rfl
  · rw [if_neg nn01]; rfl
theorem what1 {what : Int32} (hw : wi_ what 0 1 = true) : what = 0 ∨ what = 1 := by
  obtain ⟨h1, h2⟩ := wi_t.mp hw
  rw [k_0] at h1
  rw [k_1] at h2
  rw [i_eq, i_eq, k_0, k_1]
  omega
theorem op_next {a o : Nat} {g : GS} {σ : MS} (hr : Rel a o g σ) (x what : Int32) : OpT [(1, 1)] a o (X1_next a x what g) (X4_next x what σ) := by
  obtain ⟨ρ, sc, v, n, k, h, y, m, T, hp⟩ := hr
  have hp0 := hp.m (s0_eq (c := 0))
  unfold X1_next X4_next
  cases hw : wi_ what 0 1 with
  | false =>
    refine OpT.ex (e := 1) (q := gz g) (r := 0) (g' := g) (σ' := s_I (s_I σ 0 0) 0 1) (dc := 1) (ds := 6) ?_ ?_ (hp0.r s0_eq) (by omega) (by omega) (List.mem_cons_self)
    · rw [X1_oneOf_f hw, e_tcr, e_b0]
    · rw [X4_isWhat_f s0_0 hw, e_cb, if_pos rfl]
  | true =>
    rw [X1_oneOf_t hw, e_tcl, bp_0, X4_isWhat_t s0_0 hw, e_cb, if_neg nn01]
    obtain ⟨l, ys, b1, b2, b3, b4, b5, b6⟩ := hp0.2.2.2.2.2.2.2.1
    have ha := hp.1.1.1.1
    obtain ⟨e, e', dc, ds, m1, m2, m3, m4, ⟨s, m5, m6, m7⟩, m8⟩ := la2_t (body := fun a1 : Int32 × Int32 × GS => X1_next_b10 a x what a1.1 a1.2.1 a1.2.2) (body' := fun a : Int32 × Int32 => X4_next_b21 x what (s_I σ 0 0) a.1 a.2)
      (I := fun j a1 b c d => c = 0 ∧ d = 0 ∧ ∃ t s, a1.2.1 = nI t ∧ b.2 = nI t ∧ t ≤ ys.length ∧ j = ys.length - t ∧ a1.1 = nI s ∧ b.1 = nI s ∧ s ≤ t ∧ a1.2.2 = g)
      (Q := fun e e' c d => c = 0 ∧ d = 0 ∧ (∃ s, e.1 = nI s ∧ e' = nI s ∧ s ≤ ys.length) ∧ e.2 = g)
      (by
        rintro j ⟨s1, i1, g1⟩ ⟨s2, i2⟩ c d ⟨c0, d0, t, s, e1, e2, t1, t2, e3, e4, e5, e6⟩
        simp only at e1 e2 e3 e4 e6 ⊢
        subst c0 d0 e1 e2 e3 e4 e6
        unfold X1_next_b10 X4_next_b21
        rw [e_wk ha, b1, e_nn, e_wk b2.K, J2_size_l b2, e_ob, b3]
        by_cases ht : t < ys.length
        · obtain ⟨z, hz⟩ : ∃ z, ys[t]? = some z := ⟨_, List.getElem?_eq_getElem ht⟩
          obtain ⟨f1, f2, f3, f4⟩ := b5 t z hz
          rw [if_neg (nI_ge ht (by omega)), if_neg (nI_ge ht (by omega)), e_nn, e_wk b2.K, J2_get_l b2 hz, e_ob, e_rk f1, J19_intValue_l f1, e_ob, f4, e_inN (by omega) (by omega), nI_clamp (by omega)]
          unfold X1_next_j48 X4_next_j47
          by_cases q : x < m_A (s_I σ 0 0) 77 t
          · rw [if_pos q, if_pos q, Int32.add_zero, nI_1]
            exact Or.inl ⟨_, _, 0, 0, j - 1, by omega, rfl, rfl, rfl, rfl, t + 1, s, rfl, rfl, by omega, by omega, rfl, rfl, by omega, rfl⟩
          · rw [if_neg q, if_neg q, nI_1, nI_1]
            exact Or.inl ⟨_, _, 0, 0, j - 1, by omega, rfl, rfl, rfl, rfl, t + 1, s + 1, rfl, rfl, by omega, by omega, rfl, rfl, by omega, rfl⟩
        · rw [if_pos (nI_le (by omega) (by omega)), if_pos (nI_le (by omega) (by omega))]
          exact Or.inr ⟨_, _, 0, 0, rfl, rfl, rfl, rfl, ⟨s, rfl, rfl, by omega⟩, rfl⟩)
      fu_ ys.length (0, 0, g) (0, 0) 0 0 ⟨rfl, rfl, 0, 0, rfl, rfl, Nat.zero_le _, rfl, rfl, rfl, Nat.le_refl _, rfl⟩ (by unfold fu_; omega)
    obtain ⟨e1, e2⟩ := e
    simp only at m5 m8
    subst m5 m6 m8
    obtain ⟨rfl⟩ : dc = 0 := by omega
    obtain ⟨rfl⟩ : ds = 0 := by omega
    rw [m1, e_oa, bp_0, m2, e_ob, e_wk ha, b1, e_nn, e_wk b2.K, J2_size_l b2, e_ob, b3]
    unfold X4_next_j71
    rcases Nat.eq_zero_or_pos ys.length with hz | hz
    · have hs0 : s = 0 := by omega
      obtain ⟨p1, p2⟩ := part_0 what (what1 hw)
      rw [hz, hs0, if_pos (show nI 0 = 0 from rfl), p1, p2, e_ob, e_ob]
      exact OpT.ok (dc := 0) (ds := 0) rfl rfl (hp0.r MEq.rf) (by omega) (by omega) s0_0
    · obtain ⟨r, p1, p2⟩ := part_l (s := s) (z := ys.length) (by omega) hz b4 what
      rw [if_neg (nI_ne0 hz (by omega)), p1, p2, e_ob, e_ob]
      exact OpT.ok (dc := 0) (ds := 0) rfl rfl (hp0.r MEq.rf) (by omega) (by omega) s0_0
theorem op_middle {a o : Nat} {g : GS} {σ : MS} (hr : Rel a o g σ) (what : Int32) : OpT [(1, 1)] a o (X1_middle a what g) (X4_middle what σ) := by
  obtain ⟨ρ, sc, v, n, k, h, y, m, T, hp⟩ := hr
  have hp0 := hp.m (s0_eq (c := 0))
  unfold X1_middle X4_middle
  cases hw : wi_ what 0 2 with
  | false =>
    refine OpT.ex (e := 1) (q := gz g) (r := 0) (g' := g) (σ' := s_I (s_I σ 0 0) 0 1) (dc := 1) (ds := 6) ?_ ?_ (hp0.r s0_eq) (by omega) (by omega) (List.mem_cons_self)
    · rw [X1_oneOf_f hw, e_tcr, e_b0]
    · rw [X4_isWhat_f s0_0 hw, e_cb, if_pos rfl]
  | true =>
    rw [X1_oneOf_t hw, e_tcl, bp_0, X4_isWhat_t s0_0 hw, e_cb, if_neg nn01]
    obtain ⟨l, ys, b1, b2, b3, b4, b5, b6⟩ := hp0.2.2.2.2.2.2.2.1
    have ha := hp.1.1.1.1
    obtain ⟨e, e', dc, ds, m1, m2, m3, m4, ⟨s, m5, m6, m7⟩, m8, m9, m10⟩ := la2_t (body := fun a1 : Int32 × Int32 × Int32 × Int32 × GS => X1_middle_b17 a what a1.1 a1.2.1 a1.2.2.1 a1.2.2.2.1 a1.2.2.2.2) (body' := fun a : Int32 × Int32 × Int32 × Int32 => X4_middle_b26 what (s_I σ 0 0) a.1 a.2.1 a.2.2.1 a.2.2.2)
      (I := fun j a1 b c d => c = 0 ∧ d = 0 ∧ ∃ t s, a1.2.2.2.1 = nI t ∧ b.2.2.2 = nI t ∧ t ≤ ys.length ∧ j = ys.length - t ∧ a1.1 = nI s ∧ b.1 = nI s ∧ s ≤ 480 * t ∧ (0 < t → a1.2.1 = b.2.1 ∧ a1.2.2.1 = b.2.2.1) ∧ (t = 0 → a1.2.1 = 0 ∧ a1.2.2.1 = 480 ∧ b.2.1 = 0 ∧ b.2.2.1 = 0) ∧ a1.2.2.2.2 = g)
      (Q := fun e e' c d => c = 0 ∧ d = 0 ∧ (∃ s, e.1 = nI s ∧ e'.1 = nI s ∧ s ≤ 480 * ys.length) ∧ (0 < ys.length → e.2.1 = e'.2.1 ∧ e.2.2.1 = e'.2.2) ∧ (ys.length = 0 → e'.2.1 = 0 ∧ e'.2.2 = 0) ∧ e.2.2.2 = g)
      (by
        rintro j ⟨s1, mx1, mn1, i1, g1⟩ ⟨s2, mx2, mn2, i2⟩ c d ⟨c0, d0, t, s, e1, e2, t1, t2, e3, e4, e5, e6, e7, e8⟩
        simp only at e1 e2 e3 e4 e6 e7 e8 ⊢
        subst c0 d0 e1 e2 e3 e4 e8
        unfold X1_middle_b17 X4_middle_b26
        rw [e_wk ha, b1, e_nn, e_wk b2.K, J2_size_l b2, e_ob, b3]
        by_cases ht : t < ys.length
        · obtain ⟨z, hz⟩ : ∃ z, ys[t]? = some z := ⟨_, List.getElem?_eq_getElem ht⟩
          obtain ⟨f1, f2, f3, f4⟩ := b5 t z hz
          obtain ⟨w1, w2⟩ := b6 t ht
          obtain ⟨w, hw⟩ : ∃ w, w = m_A (s_I σ 0 0) 77 t := ⟨_, rfl⟩
          rw [← hw] at f4 w1 w2
          have hj102 : ∀ p1 p2 p3, X4_middle_j102 what p1 p2 (nI t) p3 (s_I σ 0 0) = some (.inl (p1, p2, p3, nI (t + 1))) := fun p1 p2 p3 => by
            unfold X4_middle_j102
            rw [nI_1]
          have hj90 : ∀ p1 p2, X4_middle_j90 what p1 p2 (nI t) (s_I σ 0 0) = some (.inl (p1, p2, w, nI (t + 1))) := fun p1 p2 => by
            unfold X4_middle_j90
            rw [e_inN (by omega) (by omega), nI_clamp (by omega), ← hw, hj102]
          have hj72 : ∀ p1 t0, X4_middle_j72 what p1 mn2 (nI t) t0 (s_I σ 0 0) = some (.inl (p1, t0, if t = 0 then w else if mn2 ≤ w then mn2 else w, nI (t + 1))) := fun p1 t0 => by
            unfold X4_middle_j72
            rcases Nat.eq_zero_or_pos t with q | q
            · rw [if_pos (by rw [q]; rfl), hj90, if_pos q]
            · rw [if_neg (nI_ne0 q (by omega)), e_inN (by omega) (by omega), nI_clamp (by omega), ← hw, hj102, hj90, if_neg (show ¬ t = 0 by omega)]
              split <;> rfl
          have hj61 : ∀ p1, X4_middle_j61 what p1 mn2 (nI t) (s_I σ 0 0) = some (.inl (p1, w, if t = 0 then w else if mn2 ≤ w then mn2 else w, nI (t + 1))) := fun p1 => by
            unfold X4_middle_j61
            rw [e_inN (by omega) (by omega), nI_clamp (by omega), ← hw, hj72]
          obtain ⟨n, hn, hn2, -⟩ := i_nat (x := w) (by omega)
          have hsum : nI s + w = nI (s + n) := by rw [hn, nI_add]
          rw [if_neg (nI_ge ht (by omega)), if_neg (nI_ge ht (by omega)), e_nn, e_wk b2.K, J2_get_l b2 hz, e_ob, e_rk f1, J19_intValue_l f1, e_ob, f4, e_nn, e_wk b2.K, J2_get_l b2 hz, e_ob, e_rk f1, J19_intValue_l f1, e_ob, f4, e_nn, e_wk b2.K, J2_get_l b2 hz, e_ob, e_rk f1, J19_intValue_l f1, e_ob, f4, e_inN (by omega) (by omega), nI_clamp (by omega), ← hw, hsum, nI_1]
          rcases Nat.eq_zero_or_pos t with q | q
          · obtain ⟨z1, z2, -, -⟩ := e7 q
            have hmx : jmax_ mx1 w = w := by
              unfold jmax_
              rw [z1, if_pos (by rw [i_lt, k_0]; omega)]
            have hmn : jmin_ mn1 w = w := by
              unfold jmin_
              rw [z2]
              have k480 : ((480 : Int32)).toInt = 480 := by decide
              by_cases k : w < 480
              · rw [if_pos k]
              · rw [if_neg k, i_eq, k480]
                rw [i_lt, k480] at k
                omega
            rw [if_pos (by rw [q]; rfl), hj61, if_pos q, hmx, hmn]
            exact Or.inl ⟨_, _, 0, 0, j - 1, by omega, rfl, rfl, rfl, rfl, t + 1, s + n, rfl, rfl, by omega, by omega, rfl, rfl, by omega, fun _ => ⟨rfl, rfl⟩, fun k => by omega, rfl⟩
          · obtain ⟨z1, z2⟩ := e6 q
            have ht0 : ¬ t = 0 := by omega
            simp only [if_neg ht0] at hj72 hj61
            rw [if_neg (nI_ne0 q (by omega)), e_inN (by omega) (by omega), hj72, hj61, z1, z2]
            have hmn : jmin_ mn2 w = (if mn2 ≤ w then mn2 else w) := by
              unfold jmin_
              by_cases k : mn2 ≤ w
              · rw [if_pos k, if_neg (by rw [nlt_le]; exact k)]
              · rw [if_neg k, if_pos (nle_lt.mp k)]
            have hmx : jmax_ mx2 w = (if w ≤ mx2 then mx2 else w) := by
              unfold jmax_
              by_cases k : w ≤ mx2
              · rw [if_pos k, if_neg (by rw [nlt_le]; exact k)]
              · rw [if_neg k, if_pos (nle_lt.mp k)]
            rw [hmn, hmx]
            by_cases k : w ≤ mx2
            · simp only [if_pos k]
              exact Or.inl ⟨_, _, 0, 0, j - 1, by omega, rfl, rfl, rfl, rfl, t + 1, s + n, rfl, rfl, by omega, by omega, rfl, rfl, by omega, fun _ => ⟨rfl, rfl⟩, fun k => by omega, rfl⟩
            · simp only [if_neg k]
              exact Or.inl ⟨_, _, 0, 0, j - 1, by omega, rfl, rfl, rfl, rfl, t + 1, s + n, rfl, rfl, by omega, by omega, rfl, rfl, by omega, fun _ => ⟨rfl, rfl⟩, fun k => by omega, rfl⟩
        · rw [if_pos (nI_le (by omega) (by omega)), if_pos (nI_le (by omega) (by omega))]
          exact Or.inr ⟨_, _, 0, 0, rfl, rfl, rfl, rfl, ⟨s, rfl, rfl, by omega⟩, fun k => e6 (by omega), fun k => ⟨(e7 (by omega)).2.2.1, (e7 (by omega)).2.2.2⟩, rfl⟩)
      fu_ ys.length (0, 0, 480, 0, g) (0, 0, 0, 0) 0 0 ⟨rfl, rfl, 0, 0, rfl, rfl, Nat.zero_le _, rfl, rfl, rfl, Nat.zero_le _, fun k => by omega, fun _ => ⟨rfl, rfl, rfl, rfl⟩, rfl⟩ (by unfold fu_; omega)
    obtain ⟨e1, e2, e3, e4⟩ := e
    obtain ⟨f1, f2, f3⟩ := e'
    simp only at m5 m6 m8 m9 m10
    subst m5 m6 m10
    obtain ⟨rfl⟩ : dc = 0 := by omega
    obtain ⟨rfl⟩ : ds = 0 := by omega
    rw [m1, e_oa, bp_0, m2, e_ob]
    dsimp only
    rw [e_wk ha, e_wk ha, b1, e_nn, e_nn, e_wk b2.K, e_wk b2.K, J2_size_l b2, e_ob, J2_isEmpty_l b2, e_ob, b3]
    have k2 : ((2 : Int32)).toInt = 2 := by decide
    obtain ⟨w1, w2⟩ := wi_t.mp hw
    rw [k_0] at w1
    rw [k2] at w2
    by_cases h2 : what = 2
    · rw [if_pos (by rw [h2]; decide), if_pos h2]
      rcases Nat.eq_zero_or_pos ys.length with hz | hz
      · obtain ⟨q1, q2⟩ := m9 hz
        rw [if_pos hz, if_neg nn01, q1, q2]
        exact OpT.ok (dc := 0) (ds := 0) rfl rfl (hp0.r MEq.rf) (by omega) (by omega) s0_0
      · obtain ⟨q1, q2⟩ := m8 hz
        rw [if_neg (show ¬ ys.length = 0 by omega), if_pos rfl, q1, q2]
        exact OpT.ok (dc := 0) (ds := 0) rfl rfl (hp0.r MEq.rf) (by omega) (by omega) s0_0
    · have h2' : ¬ (2 : Int32) ≤ what := by
        rw [i_eq, k2] at h2
        rw [i_le, k2]
        omega
      rw [if_neg h2', if_neg h2]
      unfold X4_middle_j138
      rcases Nat.eq_zero_or_pos ys.length with hz | hz
      · have hs0 : s = 0 := by omega
        have hwh : what = 0 ∨ what = 1 := by
          rw [i_eq, k2] at h2
          rw [i_eq, i_eq, k_0, k_1]
          omega
        obtain ⟨p1, p2⟩ := part_0 what hwh
        rw [hz, hs0, if_pos (show nI 0 = 0 from rfl), p1, p2, e_ob, e_ob]
        exact OpT.ok (dc := 0) (ds := 0) rfl rfl (hp0.r MEq.rf) (by omega) (by omega) s0_0
      · obtain ⟨r, p1, p2⟩ := part_l (s := s) (z := ys.length) (by omega) hz b4 what
        rw [if_neg (nI_ne0 hz (by omega)), p1, p2, e_ob, e_ob]
        exact OpT.ok (dc := 0) (ds := 0) rfl rfl (hp0.r MEq.rf) (by omega) (by omega) s0_0
end
section
/-! LAWS: what an act leaves as it was (own work) -/
set_option maxRecDepth 100000
theorem RelP.all {W : Nat → Prop} {LI LA LR LJ D : List Nat} {a o sc v n k h x m T : Nat} {g g' : GS} {ρ ρ' : Nat → Nat} {σ σ' : MS} (hp : RelP a o sc v n k h x m T g ρ σ) (hF : Fr W g g') (hA : Ag g ρ ρ') (hr : ∀ r, r ∉ D → ∀ q, q < gz g → ρ q = r → ¬ W q) (hR : ∀ i, i ∉ LR → gR g' a i = gR g a i) (hJ : ∀ i, i ∉ LJ → gI g' a i = gI g a i) (hM : Mf LI LA σ σ') (h0 : 0 ∉ D) :
    ((0 ∉ LR ∧ 2 ∉ LR) ∧ (1 ∉ LI ∧ 2 ∉ LI ∧ 3 ∉ LI ∧ 5 ∉ LI ∧ 6 ∉ LI ∧ 7 ∉ LI) ∧ (8 ∉ LA ∧ 9 ∉ LA ∧ 10 ∉ LA ∧ 11 ∉ LA ∧ 12 ∉ LA ∧ 13 ∉ LA) → CW g' ρ' a sc v n k h σ' ∧ sm_ (m_A σ' 9) n = nI T ∧ T ≤ 600) ∧
    (2 ∉ D ∧ 1 ∉ LR ∧ 4 ∉ LI ∧ 53 ∉ LA → NowP g' ρ' a x m h σ') ∧
    (59 ∉ LI ∧ 60 ∉ LI ∧ 64 ∉ LI → ZeP σ') ∧
    (7 ∉ D ∧ 3 ∉ LR ∧ (4 ∉ LJ ∧ 5 ∉ LJ) ∧ (15 ∉ LI ∧ 17 ∉ LI) ∧ 14 ∉ LA → TapP g' ρ' a σ') ∧
    (8 ∉ D ∧ 6 ∉ LR ∧ 18 ∉ LA → RefP g' ρ' a σ') ∧
    (3 ∉ D ∧ 7 ∉ LR ∧ (53 ∉ LA ∧ 55 ∉ LA) ∧ 56 ∉ LI → AcP g' ρ' 3 a 7 m h (m_A σ' 53) (m_A σ' 55) (m_I σ' 56)) ∧
    (4 ∉ D ∧ 8 ∉ LR ∧ 75 ∉ LA ∧ 74 ∉ LI → FilP g' ρ' 4 a 8 T (m_A σ' 75) (m_I σ' 74)) ∧
    (5 ∉ D ∧ 9 ∉ LR ∧ 77 ∉ LA ∧ 76 ∉ LI → BooP g' ρ' 5 a 9 (m_A σ' 77) (m_I σ' 76)) ∧
    (10 ∉ LR ∧ 68 ∉ LI ∧ 70 ∉ LA → KepP g' ρ' a σ') ∧
    ((11 ∉ LR ∧ 12 ∉ LR ∧ 13 ∉ LR ∧ 14 ∉ LR) ∧ (78 ∉ LI ∧ 79 ∉ LI ∧ 80 ∉ LI ∧ 81 ∉ LI) ∧ (82 ∉ LA ∧ 83 ∉ LA ∧ 84 ∉ LA ∧ 85 ∉ LA) → ImgP g' ρ' a m h T σ') ∧
    EnvP g' ρ' ∧ OutP g' ρ' o := by
  obtain ⟨⟨h1, h2, h3⟩, h4, h5, h6, h7, h8, h9, h10, h11, h12, h13, h14⟩ := hp
  have n0 := hr 0 h0
  have two : ∀ r, r ∉ D → ∀ q, q < gz g → ρ q = r ∨ ρ q = 0 → ¬ W q := fun r hd q hq k => k.elim (hr r hd q hq) (n0 q hq)
  refine ⟨?_, ?_, ?_, ?_, ?_, ?_, ?_, ?_, ?_, ?_, h13.to hF hA n0, h14.to hF hA⟩
  · rintro ⟨⟨a0, a2⟩, b, c⟩
    exact ⟨h1.to hF hA n0 ⟨hR 0 a0, hR 2 a2⟩ hM b c, by rw [hM.Af c.2.1]; exact h2, h3⟩
  · rintro ⟨d, r1, i4, j53⟩
    exact h4.to hF hA (two 2 d) (hR 1 r1) (hM.I i4) (hM.Af j53)
  · rintro ⟨i1, i2, i3⟩
    obtain ⟨z1, z2, z3⟩ := h5
    exact ⟨by rw [hM.I i1, z1], by rw [hM.I i2, z2], by rw [hM.I i3, z3]⟩
  · rintro ⟨d, r3, ⟨j4, j5⟩, ⟨i1, i2⟩, l⟩
    exact h6.to hF hA (hr 7 d) (hR 3 r3) (hJ 4 j4) (hJ 5 j5) (hM.I i1) (hM.I i2) (hM.Af l)
  · rintro ⟨d, r, l⟩
    exact h7.to hF hA (hr 8 d) (hR 6 r) (hM.Af l)
  · rintro ⟨d, r, ⟨l1, l2⟩, i⟩
    rw [hM.Af l1, hM.Af l2, hM.I i]
    exact h8.to hF hA (two 3 d) (hR 7 r)
  · rintro ⟨d, r, l, i⟩
    rw [hM.Af l, hM.I i]
    exact h9.to hF hA (two 4 d) (hR 8 r)
  · rintro ⟨d, r, l, i⟩
    rw [hM.Af l, hM.I i]
    exact h10.to hF hA (two 5 d) (hR 9 r)
  · rintro ⟨r, i, l⟩
    exact h11.to hF hA n0 (hR 10 r) (hM.I i) (hM.Af l)
  · rintro ⟨⟨r1, r2, r3, r4⟩, ⟨i1, i2, i3, i4⟩, l1, l2, l3, l4⟩
    exact h12.to hF hA n0 ⟨hR 11 r1, hR 12 r2, hR 13 r3, hR 14 r4⟩ ⟨hM.I i1, hM.I i2, hM.I i3, hM.I i4⟩ ⟨hM.Af l1, hM.Af l2, hM.Af l3, hM.Af l4⟩
/-- a refusal is counted -/
theorem RelP.refu {a o sc v n k h x m T : Nat} {g : GS} {ρ : Nat → Nat} {σ : MS} (hp : RelP a o sc v n k h x m T g ρ σ) (i : Nat) (hi : i < 3) (w : Int32) : ∃ rf, gR g a 6 = rf + 1 ∧ gK g rf = 100 ∧ gN g rf = 3 ∧ X4_refuses (nI i) w σ = some (w, s_A σ 18 i (m_A σ 18 i + 1)) ∧ X1_refuse a (nI i) g = some (-1, pI g rf i (gI g rf i + 1)) ∧ RelP a o sc v n k h x m T (pI g rf i (gI g rf i + 1)) ρ (s_A σ 18 i (m_A σ 18 i + 1)) := by
  obtain ⟨rf, b1, b2, b3, b4, b5, b6⟩ := hp.2.2.2.2.1
  have ha := hp.1.1.1
  have hne : ¬ a = rf := by intro q; rw [q, b2] at ha; omega
  obtain ⟨B, N, Z, Ta, Re, Ac, Fi, Bo, Ke, Im, En, Ou⟩ := hp.all (W := fun q => q = rf) (LI := []) (LA := [18]) (LR := []) (LJ := []) (D := [8]) (g' := pI g rf i (gI g rf i + 1)) (ρ' := ρ) (σ' := s_A σ 18 i (m_A σ 18 i + 1)) (Fr.pI rfl) Ag.rf (fun r hr q _ k e => by rw [e, b4] at k; exact hr (by simp [k])) (fun _ _ => rfl) (fun j _ => by rw [I_pI, if_neg (by rintro ⟨q, -⟩; exact hne q)]) (Mf.sA (by decide)) (by decide)
  refine ⟨rf, b1, b2, b3, ?_, ?_, B (by decide), N (by decide), Z (by decide), Ta (by decide), ⟨rf, b1, b2, b3, b4, b5, fun j hj => ?_⟩, Ac (by decide), Fi (by decide), Bo (by decide), Ke (by decide), Im (by decide), En, Ou⟩
  · unfold X4_refuses
    rw [e_inN hi (by omega), e_inN hi (by omega), nI_clamp (by omega)]
  · unfold X1_refuse
    rw [e_wk ha.1, b1, e_nn, e_rk (by rw [b2]), b3, e_inN hi (by omega), e_wk b2, e_inN hi (by omega), nI_clamp (by omega)]
  · rw [I_pI, rA_sA]
    by_cases q : j = i
    · rw [if_pos ⟨rfl, q⟩, if_pos ⟨rfl, q⟩, b6 i hi]
    · rw [if_neg (by rintro ⟨-, k⟩; exact q k), if_neg (by rintro ⟨-, k⟩; exact q k), b6 j hj]
end
section
/-! LAWS: book, see, forget, feed (own work) -/
set_option maxRecDepth 100000
theorem get_snoc' {xs : List Nat} {x : Nat} : (xs ++ [x])[xs.length]? = some x := by simp
theorem LiPe.fr {g g' : GS} {ρ : Nat → Nat} {r l e : Nat} {xs : List Nat} (h : LiPe g ρ r l e xs) (hF : Fr (fun q => q = l ∨ (q = e ∧ gK g e = 103)) g g') : Fr (fun q => ρ q = r) g g' := hF.mono (fun q hq k => by
  rcases k with k | ⟨k, k2⟩
  · rw [k]; exact h.2.1
  · rw [k]
    rcases h.2.2.2.2.2.2.1 with ⟨-, q2⟩ | ⟨q2, -⟩
    · exact q2
    · rw [q2] at k2; cases k2)
theorem op_book {a o : Nat} {g : GS} {σ : MS} (hr : Rel a o g σ) (x : Int32) : OpI a o (X1_book a x g) (X4_book x σ) := by
  obtain ⟨ρ, sc, v, n, k, h, y, m, T, hp⟩ := hr
  have hp0 := hp.m (s0_eq (c := 0))
  have ha := hp.1.1.1
  obtain ⟨l, ys, b1, b2, b3, b4, b5, b6⟩ := hp0.2.2.2.2.2.2.2.1
  have b3' : m_I σ 76 = nI ys.length := b3
  have hbad : OpI a o (X1_book_j26 a g) (X4_book_j26 (s_I σ 0 0)) := by
    obtain ⟨rf, -, -, -, c4, c5, c6⟩ := hp0.refu 2 (by omega) (-1)
    unfold X1_book_j26 X4_book_j26
    refine ⟨-1, _, 0, 0, _, ?_, ?_, ⟨_, _, _, _, _, _, _, _, _, c6⟩, by omega, by omega⟩
    · rw [e_wk ha.1, show (2 : Int32) = nI 2 from rfl, c5, e_cb]
    · rw [show (2 : Int32) = nI 2 from rfl, c4, e_cb]
  unfold X1_book X4_book
  rw [e_wk ha.1, b1, e_nn, e_wk b2.K, J2_size_l b2, e_ob, b3']
  by_cases h16 : ys.length = 16
  · rw [if_pos (by rw [h16]; rfl), if_pos (by rw [h16]; rfl)]
    exact hbad
  · have hl16 : ys.length + 1 ≤ 16 := by omega
    have hn16 : ¬ nI ys.length = 16 := fun q => h16 (nI_inj (by omega) (by omega) q)
    rw [if_neg hn16, if_neg hn16, X1_in_l, X4_within_l, e_ob, e_ob]
    cases hw : wi_ x 12 480 with
    | false => exact hbad
    | true =>
      obtain ⟨w1, w2⟩ := wi_t.mp hw
      rw [k_12] at w1
      rw [k_480] at w2
      rw [if_pos rfl, if_neg nn01, if_neg nn01, e_nn, e_inN (by omega) (by omega), nI_clamp (by omega), nI_1]
      have hE := hp0.2.2.2.2.2.2.2.2.2.2.1
      obtain ⟨z, g1, dc1, ds1, c1, c2, c3, c4, c5, c6, c7, c8, c9⟩ := J19_valueOf_l hE.2.1 x
      obtain ⟨e, he⟩ := b2
      have he1 : LiPe g1 (nr ρ g 0) 5 l e ys := he.to c2 nr_ag (fun _ _ _ k => k)
      obtain ⟨g2, e', dc2, ds2, d1, d2, d3, d4, d5, d6, d7, d8, d9⟩ := J2_add_l he1 (by rw [c2.S]; obtain ⟨⟨d, hd, -⟩, -⟩ := hE.1; exact ⟨d, hd⟩) (by omega) c5 (by rw [c3]; rfl)
      have hF : Fr (fun q => ρ q = 5) g g2 := (c2.mono (fun _ _ k => k.elim)).trans (he1.fr d3) (fun q hq k => by rw [nr_lt hq] at k; exact k)
      have hA : Ag g ρ (nr (nr ρ g 0) g1 5) := nr_ag.trans nr_ag c2.z
      have ha5 : ¬ ρ a = 5 := by rw [ha.2.1]; omega
      have hM : Mf [0, 76] [77] σ (s_I (s_A (s_I σ 0 0) 77 ys.length x) 76 (nI (ys.length + 1))) := ((Mf.sI (LI := [0, 76]) (LA := [77]) (by decide)).trans (Mf.sA (LI := []) (LA := [77]) (by decide)) (fun _ k => by cases k) (fun _ k => k)).trans (Mf.sI (LI := [76]) (LA := []) (by decide)) (by decide) (by decide)
      obtain ⟨B, N, Z, Ta, Re, Ac, Fi, Bo, Ke, Im, En, Ou⟩ := hp.all (LR := []) (LJ := []) (D := [5]) hF hA (fun r hr q _ k e => by rw [k] at e; exact hr (by simp [e])) (fun i _ => hF.R ha.2.2.1 ha5 i) (fun i _ => hF.I ha.2.2.1 ha5 i) hM (by decide)
      have ha2 : gK g2 a = 1 := by rw [hF.K ha.2.2.1, ha.1]
      have h9 : gR g2 a 9 = l + 1 := by rw [hF.R ha.2.2.1 ha5, b1]
      have hBo : BooP g2 (nr (nr ρ g 0) g1 5) 5 a 9 (m_A (s_I (s_A (s_I σ 0 0) 77 ys.length x) 76 (nI (ys.length + 1))) 77) (m_I (s_I (s_A (s_I σ 0 0) 77 ys.length x) 76 (nI (ys.length + 1))) 76) := by
        refine ⟨l, ys ++ [z], h9, ⟨e', d2⟩, ?_, ?_, fun i w hw => ?_, fun i hi => ?_⟩
        · rw [len_snoc]; rfl
        · rw [len_snoc]; exact hl16
        · show _ ∧ _ ∧ _ ∧ gI g2 w 0 = m_A (s_A (s_I σ 0 0) 77 ys.length x) 77 i
          rw [rA_sA]
          rcases get_snoc hw with ⟨q1, q2⟩ | ⟨q1, q2⟩
          · obtain ⟨f1, f2, f3, f4⟩ := b5 i w q2
            rw [if_neg (by rintro ⟨-, k⟩; exact Nat.ne_of_lt q1 k), hF.K f3, hA w f3, hF.I f3 (by rw [f2]; decide)]
            exact ⟨f1, f2, hF.lt f3, f4⟩
          · subst q1 q2
            have hz5 : ¬ nr ρ g 0 w = 5 := by rw [c4]; decide
            rw [if_pos ⟨rfl, rfl⟩, d3.K c5, nr_lt c5, (he1.fr d3).I c5 hz5]
            exact ⟨c3, c4, d3.lt c5, c6⟩
        · show 12 ≤ (m_A (s_A (s_I σ 0 0) 77 ys.length x) 77 i).toInt ∧ (m_A (s_A (s_I σ 0 0) 77 ys.length x) 77 i).toInt ≤ 480
          rw [rA_sA]
          rw [len_snoc] at hi
          by_cases q : i = ys.length
          · rw [if_pos ⟨rfl, q⟩]; exact ⟨w1, w2⟩
          · rw [if_neg (by rintro ⟨-, k⟩; exact q k)]; exact b6 i (Nat.lt_of_le_of_ne (Nat.le_of_lt_succ hi) q)
      refine ⟨nI (ys.length + 1), g2, dc2 + dc1, ds2 + ds1, _, ?_, rfl, ⟨_, _, _, _, _, _, _, _, _, B (by decide), N (by decide), Z (by decide), Ta (by decide), Re (by decide), Ac (by decide), Fi (by decide), hBo, Ke (by decide), Im (by decide), En, Ou⟩, by omega, by omega⟩
      rw [c1, e_ca, e_wk (by rw [he1.1]), d1, e_ca, e_wk ha2, h9, e_nn, e_wk d2.1, J2_size_l ⟨e', d2⟩, e_ob, len_snoc, e_b0, e_bp]
theorem op_see {a o : Nat} {g : GS} {σ : MS} (hr : Rel a o g σ) (x b : Int32) : OpT [(1, 1)] a o (X1_see a x b g) (X4_see x b σ) := by
  obtain ⟨ρ, sc, v, n, k, h, y, m, T, hp⟩ := hr
  have hp0 := hp.m (s0_eq (c := 0))
  have ha := hp.1.1.1
  have hT6 := hp.1.2.2
  have hla := hp0.sc.2.2.2.2
  obtain ⟨nf, ⟨l, xs, b1, b2, b3, b4⟩, b5, b6, b7⟩ := hp0.2.2.2.2.2.2.1
  have b5' : m_I (s_I σ 0 0) 74 = nI nf := b5
  unfold X1_see X4_see
  rw [e_wk ha.1]
  cases ht : wi_ x 0 (nI T) with
  | false =>
    refine OpT.ex (e := 1) (q := gz g) (r := 0) (g' := g) (σ' := s_I (s_I σ 0 0) 0 1) (dc := 1) (ds := 6) ?_ ?_ (hp0.r s0_eq) (by omega) (by omega) (List.mem_cons_self)
    · rw [X1_aTenth_f hp0 ht, e_tcr, e_b0]
    · rw [X4_isTenth_f hla s0_0 ht, e_cb, if_pos rfl]
  | true =>
    rw [X1_aTenth_t hp0 ht, e_tcl, bp_0, X4_isTenth_t hla s0_0 ht, e_cb, if_neg nn01, e_wk ha.1, b1, e_nn, e_wk b2.K, J2_size_l b2, e_ob, b5', b3]
    obtain ⟨t1, t2⟩ := wi_t.mp ht
    rw [k_0] at t1
    rw [i_n (by omega)] at t2
    by_cases h8 : nf = 8
    · obtain ⟨rf, -, -, -, c4, c5, c6⟩ := hp0.refu 2 (by omega) (-1)
      rw [if_pos (by rw [h8]; rfl), if_pos (by rw [h8]; rfl)]
      refine OpT.ok (r := -1) (dc := 0) (ds := 0) ?_ ?_ ⟨_, _, _, _, _, _, _, _, _, c6⟩ (by omega) (by omega) ?_
      · rw [show (2 : Int32) = nI 2 from rfl, c5, e_cb]
      · rw [show (2 : Int32) = nI 2 from rfl, c4, e_cb]
      · rfl
    · have hn8 : ¬ nI nf = 8 := fun q => h8 (nI_inj (by omega) (by omega) q)
      have hl8 : nf + 1 ≤ 8 := by omega
      have e2n : (2 : Int32) * nI nf = nI (2 * nf) := (Int32.ofNat_mul 2 nf).symm
      have hz : ∀ i, i < 2 → 2 * nf + i < 16 := fun i hi => by omega
      have hE := hp0.2.2.2.2.2.2.2.2.2.2.1
      rw [if_neg hn8, if_neg hn8, e_nn, e_na (by decide), e_al, cl_2, e2n, e_inN (show 2 * nf < 16 from hz 0 (by omega)) (by omega), nI_clamp (by omega), N_nw, if_pos rfl, e_i0 (by decide) (by decide), cl_0, nI_1]
      -- both branches at once
      have key : ∀ w : Int32, w = 0 ∨ w = 1 → OpT [(1, 1)] a o (bp_ 1 2 (X1_see_j47 a l (gz g) (gz g) 1 w (pI (nw_ g 100 2) (gz g) 0 x))) (X4_see_j64 (nI (2 * nf + 1)) w (s_A (s_I σ 0 0) 75 (2 * nf) x)) := by
        intro w hw
        obtain ⟨g1, hg1⟩ : ∃ g1, g1 = pI (pI (nw_ g 100 2) (gz g) 0 x) (gz g) 1 w := ⟨_, rfl⟩
        have z1 : gz g1 = gz g + 1 := by rw [hg1]; rfl
        have F1 : Fr no_ g g1 := by
          rw [hg1]
          exact (Fr.nw (W := no_)).trans ((Fr.pI (W := fun q => q = gz g) rfl).trans (Fr.pI (W := fun q => q = gz g) rfl) (fun _ _ k => k)) (fun q hq k => by omega)
        have k1 : gK g1 (gz g) = 100 := by rw [hg1, K_pI, K_pI, K_nw, if_pos rfl]
        have n1 : gN g1 (gz g) = 2 := by rw [hg1, N_pI, N_pI, N_nw, if_pos rfl]
        have i0 : gI g1 (gz g) 0 = x := by rw [hg1, I_pI, if_neg (by rintro ⟨-, q⟩; cases q), I_pI, if_pos ⟨rfl, rfl⟩]
        have i1 : gI g1 (gz g) 1 = w := by rw [hg1, I_pI, if_pos ⟨rfl, rfl⟩]
        obtain ⟨e, he⟩ := b2
        have he1 : LiPe g1 (nr ρ g 0) 4 l e xs := he.to F1 nr_ag (fun _ _ _ k => k)
        obtain ⟨g2, e', dc2, ds2, d1, d2, d3, d4, d5, d6, d7, d8, d9⟩ := J2_add_l he1 (x := gz g) (by rw [F1.S]; obtain ⟨⟨d, hd, -⟩, -⟩ := hE.1; exact ⟨d, hd⟩) (by omega) (by omega) (by rw [k1]; rfl)
        have hF : Fr (fun q => ρ q = 4) g g2 := (F1.mono (fun _ _ k => k.elim)).trans (he1.fr d3) (fun q hq k => by rw [nr_lt hq] at k; exact k)
        have hA : Ag g ρ (nr (nr ρ g 0) g1 4) := nr_ag.trans nr_ag F1.z
        have ha4 : ¬ ρ a = 4 := by rw [ha.2.1]; decide
        have hM : Mf [0, 74] [75] σ (s_I (s_A (s_A (s_I σ 0 0) 75 (2 * nf) x) 75 (2 * nf + 1) w) 74 (nI (nf + 1))) := (((Mf.sI (LI := [0, 74]) (LA := [75]) (by decide)).trans (Mf.sA (LI := []) (LA := [75]) (by decide)) (fun _ k => by cases k) (fun _ k => k)).trans (Mf.sA (LI := []) (LA := [75]) (by decide)) (fun _ k => by cases k) (fun _ k => k)).trans (Mf.sI (LI := [74]) (LA := []) (by decide)) (by decide) (by decide)
        obtain ⟨B, N, Z, Ta, Re, Ac, Fi, Bo, Ke, Im, En, Ou⟩ := hp.all (LR := []) (LJ := []) (D := [4]) hF hA (fun r hr q _ k e => by rw [k] at e; exact hr (by simp [e])) (fun i _ => hF.R ha.2.2.1 ha4 i) (fun i _ => hF.I ha.2.2.1 ha4 i) hM (by decide)
        have ha2 : gK g2 a = 1 := by rw [hF.K ha.2.2.1, ha.1]
        have h8' : gR g2 a 8 = l + 1 := by rw [hF.R ha.2.2.1 ha4, b1]
        have hz4 : ¬ nr ρ g 0 (gz g) = 4 := by rw [nr_ge (Nat.le_refl _)]; decide
        have hzg : gz g < gz g1 := by rw [z1]; exact Nat.lt_succ_self _
        have hrow : ∀ i, m_A (s_I (s_A (s_A (s_I σ 0 0) 75 (2 * nf) x) 75 (2 * nf + 1) w) 74 (nI (nf + 1))) 75 i = if i = 2 * nf + 1 then w else if i = 2 * nf then x else m_A σ 75 i := by
          intro i
          rw [rA_sI, rA_sA, rA_sA, rA_sI]
          by_cases q1 : i = 2 * nf + 1
          · rw [if_pos ⟨rfl, q1⟩, if_pos q1]
          · rw [if_neg (by rintro ⟨-, k⟩; exact q1 k), if_neg q1]
            by_cases q2 : i = 2 * nf
            · rw [if_pos ⟨rfl, q2⟩, if_pos q2]
            · rw [if_neg (by rintro ⟨-, k⟩; exact q2 k), if_neg q2]
        have hFi : FilP g2 (nr (nr ρ g 0) g1 4) 4 a 8 T (m_A (s_I (s_A (s_A (s_I σ 0 0) 75 (2 * nf) x) 75 (2 * nf + 1) w) 74 (nI (nf + 1))) 75) (m_I (s_I (s_A (s_A (s_I σ 0 0) 75 (2 * nf) x) 75 (2 * nf + 1) w) 74 (nI (nf + 1))) 74) := by
          refine ⟨nf + 1, ⟨l, xs ++ [gz g], h8', ⟨e', d2⟩, by rw [len_snoc, b3], fun i u hu => ?_⟩, rfl, hl8, fun j hj => ?_⟩
          · dsimp only
            rw [hrow, hrow]
            rcases get_snoc hu with ⟨q1, q2⟩ | ⟨q1, q2⟩
            · have q3 : i < nf := by rw [← b3]; exact q1
              have e1 : ¬ 2 * i = 2 * nf + 1 := fun k => by omega
              have e2 : ¬ 2 * i = 2 * nf := fun k => by omega
              have e3 : ¬ 2 * i + 1 = 2 * nf + 1 := fun k => by omega
              have e4 : ¬ 2 * i + 1 = 2 * nf := fun k => by omega
              rw [if_neg e1, if_neg e2, if_neg e3, if_neg e4]
              exact (b4.to hF hA (fun q _ k k2 => by rw [k] at k2; cases k2)) i u q2
            · subst q2
              have e1 : ¬ 2 * i = 2 * nf + 1 := fun k => by omega
              have e2 : 2 * i = 2 * nf := by rw [q1, b3]
              have e3 : 2 * i + 1 = 2 * nf + 1 := by rw [e2]
              rw [if_neg e1, if_pos e2, if_pos e3, d3.K hzg, d3.N hzg, nr_lt hzg, (he1.fr d3).I hzg hz4, (he1.fr d3).I hzg hz4, i0, i1]
              exact ⟨k1, n1, nr_ge (Nat.le_refl _), rfl, rfl, d3.lt hzg⟩
          · rw [hrow, hrow]
            have e1 : ¬ 2 * j = 2 * nf + 1 := fun k => by omega
            have e4 : ¬ 2 * j + 1 = 2 * nf := fun k => by omega
            rw [if_neg e1, if_neg e4]
            by_cases q : j = nf
            · rw [if_pos (by rw [q]), if_pos (by rw [q])]
              exact ⟨⟨t1, t2⟩, hw⟩
            · have q3 : j < nf := Nat.lt_of_le_of_ne (Nat.le_of_lt_succ hj) q
              rw [if_neg (fun k => by omega), if_neg (fun k => by omega)]
              exact b7 j q3
        refine OpT.ok (r := nI (nf + 1)) (g' := g2) (dc := dc2 + 1) (ds := ds2 + 2) ?_ ?_ ⟨_, _, _, _, _, _, _, _, _, B (by decide), N (by decide), Z (by decide), Ta (by decide), Re (by decide), Ac (by decide), hFi, Bo (by decide), Ke (by decide), Im (by decide), En, Ou⟩ ?_ ?_ rfl
        · unfold X1_see_j47
          rw [e_wk (by rw [K_pI, K_nw, if_pos rfl]), N_pI, N_nw, if_pos rfl, e_i1 (by decide) (by decide), cl_1, ← hg1, e_wk (by rw [he1.1]), d1, e_ca, e_wk ha2, h8', e_nn, e_wk d2.1, J2_size_l ⟨e', d2⟩, e_ob, len_snoc, b3, e_b0, e_bp]
        · unfold X4_see_j64
          rw [e_inN (hz 1 (by omega)) (by omega), nI_clamp (by omega)]
          have e3 : m_I (s_A (s_I σ 0 0) 75 (2 * nf) x) 74 + 1 = nI (nf + 1) := by rw [rI_sA, b5', nI_1]
          rw [e3]
        · rw [b3] at d8; exact Nat.le_trans (Nat.add_le_add_right d4 1) (by decide)
        · have : xs.length ≤ 8 := by rw [b3]; exact b6
          exact Nat.le_trans (Nat.add_le_add_right (Nat.le_trans d8 (Nat.add_le_add_left (Nat.mul_le_mul_left 2 this) 10)) 2) (by decide)
      by_cases hb : b = 0
      · rw [if_pos hb, if_pos hb]
        exact key 0 (Or.inl rfl)
      · rw [if_neg hb, if_neg hb]
        exact key 1 (Or.inr rfl)
end
section
/-! LAWS: forget, feed (own work) -/
set_option maxRecDepth 100000
def OpV (a o : Nat) (X : Option ((Unit × GS) × Nat × Nat)) (M : Option MS) : Prop := ∃ g' dc ds σ', X = some (((), g'), dc, ds) ∧ M = some σ' ∧ Rel a o g' σ' ∧ dc ≤ 18000 ∧ ds ≤ 80000
def OpN (a o : Nat) (X : Option (Int32 × GS)) (M : Option (Int32 × MS)) : Prop := ∃ r g' σ', X = some (r, g') ∧ M = some (r, σ') ∧ Rel a o g' σ'
theorem op_forget {a o : Nat} {g : GS} {σ : MS} (hr : Rel a o g σ) : OpV a o (X1_forget a g) (X4_forget σ) := by
  obtain ⟨ρ, sc, v, n, k, h, y, m, T, hp⟩ := hr
  have ha := hp.1.1.1
  have hE := hp.2.2.2.2.2.2.2.2.2.2.1
  obtain ⟨g1, e1, a1, a2, a3, a4, a5, a6⟩ := J2_init_l hE.1 4
  obtain ⟨g2, hg2⟩ : ∃ g2, g2 = pR g1 a 8 (gz g + 1) := ⟨_, rfl⟩
  have F2 : Fr (fun q => q = a) g1 g2 := by rw [hg2]; exact Fr.pR rfl
  have z2 : gz g2 = gz g + 1 := by rw [hg2]; exact a4
  have F12 : Fr (fun q => q = a) g g2 := (a3.mono (fun _ _ k => k.elim)).trans F2 (fun _ _ k => k)
  have hA2 : Ag g ρ (nr ρ g 4) := nr_ag
  obtain ⟨g3, e3, b1, b2, b3, b4, b5, b6⟩ := J2_init_l (hE.1.to F12 hA2) 5
  obtain ⟨g4, hg4⟩ : ∃ g4, g4 = pR g3 a 9 (gz g2 + 1) := ⟨_, rfl⟩
  have F4 : Fr (fun q => q = a) g3 g4 := by rw [hg4]; exact Fr.pR rfl
  have F24 : Fr (fun q => q = a) g2 g4 := (b3.mono (fun _ _ k => k.elim)).trans F4 (fun _ _ k => k)
  have F : Fr (fun q => q = a) g g4 := F12.trans F24 (fun _ _ k => k)
  have hA : Ag g ρ (nr (nr ρ g 4) g2 5) := hA2.trans nr_ag F12.z
  have k1 : gK g1 a = 1 := by rw [a3.K ha.2.2.1, ha.1]
  have l2 : a < gz g2 := F12.lt ha.2.2.1
  have k3 : gK g3 a = 1 := by rw [b3.K l2, hg2, K_pR, k1]
  have hM : Mf [0, 74, 76] [] σ (s_I (s_I (s_I σ 0 0) 74 0) 76 0) := ((Mf.sI (LI := [0, 74, 76]) (LA := []) (by decide)).trans (Mf.sI (LI := [74]) (LA := []) (by decide)) (by decide) (by decide)).trans (Mf.sI (LI := [76]) (LA := []) (by decide)) (by decide) (by decide)
  have hR3 : ∀ i, i ≠ 8 → gR g3 a i = gR g a i := fun i hi => by rw [b3.R l2 (fun k => k), hg2, R_pR, if_neg (by rintro ⟨-, q⟩; exact hi q), a3.R ha.2.2.1 (fun k => k)]
  have hR : ∀ i, i ∉ [8, 9] → gR g4 a i = gR g a i := fun i hi => by rw [hg4, R_pR, if_neg (by rintro ⟨-, q⟩; exact hi (by simp [q])), hR3 i (fun q => hi (by simp [q]))]
  have hI : ∀ i, i ∉ [] → gI g4 a i = gI g a i := fun i _ => by rw [hg4, I_pR, b3.I l2 (fun k => k), hg2, I_pR, a3.I ha.2.2.1 (fun k => k)]
  obtain ⟨B, N, Z, Ta, Re, Ac, Fi, Bo, Ke, Im, En, Ou⟩ := hp.all (LR := [8, 9]) (LJ := []) (D := [1]) F hA (fun r hr q _ k e => by rw [e, ha.2.1] at k; exact hr (by simp [k])) hR hI hM (by decide)
  have ha' : ∀ q, nr ρ g 4 q = 4 ∨ nr ρ g 4 q = 0 → ¬ q = a := fun q k e => by rw [e, nr_lt ha.2.2.1, ha.2.1] at k; omega
  have ha'' : ∀ q, nr (nr ρ g 4) g2 5 q = 5 ∨ nr (nr ρ g 4) g2 5 q = 0 → ¬ q = a := fun q k e => by rw [e, nr_lt l2, nr_lt ha.2.2.1, ha.2.1] at k; omega
  have L1 : LiPe g4 (nr (nr ρ g 4) g2 5) 4 (gz g) e1 [] := (a2.to F2 Ag.rf (fun q _ k => ha' q k)).to F24 nr_ag (fun q _ k => ha' q k)
  have L2 : LiPe g4 (nr (nr ρ g 4) g2 5) 5 (gz g2) e3 [] := b2.to F4 Ag.rf (fun q _ k => ha'' q k)
  refine ⟨g4, 2, 6, _, ?_, rfl, ⟨_, _, _, _, _, _, _, _, _, B (by decide), N (by decide), Z (by decide), Ta (by decide), Re (by decide), Ac (by decide), ⟨0, ⟨gz g, [], ?_, ⟨e1, L1⟩, rfl, fun i u hu => (by cases hu)⟩, rfl, Nat.zero_le _, fun j hj => absurd hj (Nat.not_lt_zero _)⟩, ⟨gz g2, [], ?_, ⟨e3, L2⟩, rfl, Nat.zero_le _, fun i u hu => (by cases hu), fun j hj => absurd hj (Nat.not_lt_zero _)⟩, Ke (by decide), Im (by decide), En, Ou⟩, by omega, by omega⟩
  · unfold X1_forget
    rw [e_al, a1, e_ob, e_wk k1, ← hg2, e_al, b1, e_ob, e_wk k3, ← hg4]
    rfl
  · rw [hg4, R_pR, if_neg (by rintro ⟨-, q⟩; cases q), b3.R l2 (fun k => k), hg2, R_pR, if_pos ⟨rfl, rfl⟩]
  · rw [hg4, R_pR, if_pos ⟨rfl, rfl⟩]
/-! feed -/
theorem by_lo (y : Int32) : (y &&& 255).toInt8.toInt32 = y.toInt8.toInt32 := by
  have : (y &&& 255).toInt8 = y.toInt8 := by
    rw [Int32.toInt8_and]
    have e : (255 : Int32).toInt8 = -1 := by decide
    rw [e, Int8.and_neg_one]
  rw [this]
theorem by_id (y : Int32) : y.toInt8.toInt32.toInt8.toInt32 = y.toInt8.toInt32 := by
  rw [Int8.toInt8_toInt32]
theorem by_rg (y : Int32) : 0 ≤ (y &&& 255).toInt ∧ (y &&& 255).toInt ≤ 255 := by
  obtain ⟨j, j1, j2⟩ := pk_andE y (m := 255) 8 (by decide)
  have j3 : j < 256 := j1
  rw [j2, i_n (by omega)]
  omega
theorem sh4 : ∀ r : Fin 4, (24 - 8 * nI r.val) = nI (24 - 8 * r.val) := by decide
theorem sh4' : ∀ r : Fin 4, ¬ nI (24 - 8 * r.val) < 0 ∧ nI (24 - 8 * r.val) + (-8) = 24 - 8 * nI (r.val + 1) := by decide
def by_ (x : Int32) (r : Nat) : Int32 := (x >>> (nI (24 - 8 * r) &&& 31)) &&& 255
theorem lays_l {σ : MS} {t : Nat} (x : Int32) (ht : m_I σ 15 = nI t) (h : t + 4 ≤ 700) : ∃ σ', X4_lays x σ = some σ' ∧ Mf [15] [14] σ σ' ∧ m_I σ' 15 = nI (t + 4) ∧ ∀ i, m_A σ' 14 i = if t ≤ i ∧ i < t + 4 then by_ x (i - t) else m_A σ 14 i := by
  obtain ⟨k1, k2⟩ := for_l (enc := fun (c : MS) r => ((24 : Int32) - 8 * nI r, c)) (fun a : Int32 × MS => X4_lays_b3 x a.1 a.2) 3 (fun r c => s_I (s_A c 14 (t + r) (by_ x r)) 15 (nI (t + (r + 1)))) (fun c => c)
    (fun r c => Mf [15] [14] σ c ∧ m_I c 15 = nI (t + r) ∧ ∀ i, m_A c 14 i = if t ≤ i ∧ i < t + r then by_ x (i - t) else m_A σ 14 i)
    (fun r c hr ⟨p1, p2, p3⟩ => ⟨(p1.trans (Mf.sA (LI := []) (LA := [14]) (by decide)) (fun _ k => by cases k) (by decide)).trans (Mf.sI (LI := [15]) (LA := []) (by decide)) (by decide) (fun _ k => by cases k), rfl, fun i => by
      rw [rA_sI, rA_sA]
      by_cases q : i = t + r
      · rw [if_pos ⟨rfl, q⟩, if_pos (by omega), show i - t = r by omega]
      · rw [if_neg (by rintro ⟨-, k⟩; exact q k), p3]
        by_cases q2 : t ≤ i ∧ i < t + r
        · rw [if_pos q2, if_pos (by omega)]
        · rw [if_neg q2, if_neg (by omega)]⟩)
    (fun r c hr ⟨p1, p2, p3⟩ => by
      show X4_lays_b3 x (24 - 8 * nI r) c = _
      have e1 := sh4 ⟨r, by omega⟩
      have e2 := sh4' ⟨r, by omega⟩
      simp only at e1 e2
      unfold X4_lays_b3
      rw [e1, if_neg e2.1, p2, e_inN (by omega) (by omega), nI_clamp (by omega), nI_1, e2.2]
      rfl)
    (fun c _ => by
      show X4_lays_b3 x (24 - 8 * nI 4) c = _
      unfold X4_lays_b3
      rw [if_pos (by decide)]) σ ⟨Mf.rf, by rw [ht]; rfl, fun i => by rw [if_neg (by omega)]⟩ (n := fu_) (by unfold fu_; omega)
  refine ⟨_, ?_, k2⟩
  unfold X4_lays
  rw [show (lp_ (fun a : Int32 × MS => X4_lays_b3 x a.1 a.2) fu_ (24, σ)) = _ from k1, e_ob]
theorem shj : ∀ j : Fin 20, ((24 : Int32) - (8 * (nI j.val - nI j.val / 4 * 4))) = nI (24 - 8 * (j.val % 4)) := by decide +kernel
def fx_ (x1 x2 x3 x4 x5 : Int32) (q : Nat) : Int32 := if q = 0 then x1 else if q = 1 then x2 else if q = 2 then x3 else if q = 3 then x4 else x5
theorem op_feed {a o : Nat} {g : GS} {σ : MS} (hr : Rel a o g σ) (x1 x2 x3 x4 x5 : Int32) : OpN a o (X1_feed a x1 x2 x3 x4 x5 g) (X4_feed x1 x2 x3 x4 x5 σ) := by
  obtain ⟨ρ, sc, v, n, k, h, y, m, T, hp⟩ := hr
  have hp0 := hp.m (s0_eq (c := 0))
  have ha := hp.1.1.1
  obtain ⟨⟨tp, b1, b2, b3, b4, b5, b6⟩, ⟨t, t1, t2, t3⟩, b7⟩ := hp.2.2.2.1
  have e20 : nI t + 20 = nI (t + 20) := nI_add t 20
  unfold X1_feed X4_feed
  rw [e_wk ha.1, t2, t3, e20]
  by_cases hle : t + 20 ≤ 700
  · have h1 : nI (t + 20) ≤ 700 := nI_le (b := 700) hle (by omega)
    rw [if_pos h1, if_pos h1]
    have hne : ¬ a = tp := by intro q; have := ha.1; rw [q, b2] at this; omega
    -- the model
    obtain ⟨σ1, c1, m1, i1, r1⟩ := lays_l (σ := s_I σ 0 0) (t := t) x1 t3 (by omega)
    obtain ⟨σ2, c2, m2, i2, r2⟩ := lays_l x2 i1 (by omega)
    obtain ⟨σ3, c3, m3, i3, r3⟩ := lays_l x3 i2 (by omega)
    obtain ⟨σ4, c4, m4, i4, r4⟩ := lays_l x4 i3 (by omega)
    obtain ⟨σ5, c5, m5, i5, r5⟩ := lays_l x5 i4 (by omega)
    have hM : Mf [0, 15] [14] σ σ5 := ((((((Mf.sI (LI := [0, 15]) (LA := [14]) (by decide)).trans m1 (by decide) (by decide)).trans m2 (by decide) (by decide)).trans m3 (by decide) (by decide)).trans m4 (by decide) (by decide)).trans m5 (by decide) (by decide))
    have hrow : ∀ i, m_A σ5 14 i = if t ≤ i ∧ i < t + 20 then by_ (fx_ x1 x2 x3 x4 x5 ((i - t) / 4)) ((i - t) % 4) else m_A σ 14 i := by
      intro i
      rw [r5, r4, r3, r2, r1]
      unfold fx_
      by_cases q : t ≤ i ∧ i < t + 20
      · rw [if_pos q]
        obtain ⟨d, rfl⟩ : ∃ d, i = t + d := ⟨i - t, by omega⟩
        rw [show t + d - t = d by omega, show t + d - (t + 4) = d - 4 by omega, show t + d - (t + 4 + 4) = d - 8 by omega, show t + d - (t + 4 + 4 + 4) = d - 12 by omega, show t + d - (t + 4 + 4 + 4 + 4) = d - 16 by omega]
        by_cases q4 : 16 ≤ d
        · rw [if_pos (by omega), if_neg (by omega), if_neg (by omega), if_neg (by omega), if_neg (by omega), show d % 4 = d - 16 by omega]
        · rw [if_neg (by omega)]
          by_cases q3 : 12 ≤ d
          · rw [if_pos (by omega), if_neg (by omega), if_neg (by omega), if_neg (by omega), if_pos (by omega), show d % 4 = d - 12 by omega]
          · rw [if_neg (by omega)]
            by_cases q2 : 8 ≤ d
            · rw [if_pos (by omega), if_neg (by omega), if_neg (by omega), if_pos (by omega), show d % 4 = d - 8 by omega]
            · rw [if_neg (by omega)]
              by_cases q1 : 4 ≤ d
              · rw [if_pos (by omega), if_neg (by omega), if_pos (by omega), show d % 4 = d - 4 by omega]
              · rw [if_neg (by omega), if_pos (by omega), if_pos (by omega), show d % 4 = d by omega]
      · rw [if_neg q, if_neg (by omega), if_neg (by omega), if_neg (by omega), if_neg (by omega), if_neg (by omega)]
        rfl
    -- the component
    obtain ⟨k1, k2⟩ := for_l (enc := fun (c : GS) j => (nI j, c)) (fun a1 : Int32 × GS => X1_feed_b18 a x1 x2 x3 x4 x5 a1.1 a1.2) 19 (fun j c => pI c tp (t + j) (by_ (fx_ x1 x2 x3 x4 x5 (j / 4)) (j % 4)).toInt8.toInt32) (fun c => c)
      (fun j c => Fr (fun q => q = tp) g c ∧ gz c = gz g ∧ ∀ i, gI c tp i = if t ≤ i ∧ i < t + j then (by_ (fx_ x1 x2 x3 x4 x5 ((i - t) / 4)) ((i - t) % 4)).toInt8.toInt32 else gI g tp i)
      (fun j c hj ⟨p1, p2, p3⟩ => ⟨p1.trans (Fr.pI (W := fun q => q = tp) rfl) (fun _ _ k => k), p2, fun i => by
        rw [I_pI]
        by_cases q : i = t + j
        · rw [if_pos ⟨rfl, q⟩, if_pos (by omega), show i - t = j by omega]
        · rw [if_neg (by rintro ⟨-, k⟩; exact q k), p3]
          by_cases q2 : t ≤ i ∧ i < t + j
          · rw [if_pos q2, if_pos (by omega)]
          · rw [if_neg q2, if_neg (by omega)]⟩)
      (fun j c hj ⟨p1, p2, p3⟩ => by
        show X1_feed_b18 a x1 x2 x3 x4 x5 (nI j) c = _
        have ka : gK c a = 1 := by rw [p1.K ha.2.2.1, ha.1]
        have ra : gR c a 3 = tp + 1 := by rw [p1.R ha.2.2.1 hne, b1]
        have kt : gK c tp = 101 := by rw [p1.K b5, b2]
        have nt : gN c tp = 700 := by rw [p1.N b5, b3]
        have ia : gI c a 4 = nI t := by rw [p1.I ha.2.2.1 hne, t2]
        have hs := shj ⟨j, by omega⟩
        simp only at hs
        have key : ∀ w, X1_feed_j71 a x1 x2 x3 x4 x5 (nI j) w c = some (.inl (nI (j + 1), pI c tp (t + j) (by_ w (j % 4)).toInt8.toInt32)) := by
          intro w
          unfold X1_feed_j71 by_
          rw [e_wk ka, ra, e_nn, e_dv (by decide), e_wk kt, ia, nI_add, nt, e_inN (by omega) (by omega), nI_clamp (by omega), e_nm, hs, by_id, by_lo, nI_1]
        have h20 : ¬ (20 : Int32) ≤ nI j := nI_ge (b := 20) (by omega) (by omega)
        unfold X1_feed_b18
        rw [if_neg h20]
        unfold fx_
        by_cases q1 : 4 ≤ j
        · rw [if_pos (show (4 : Int32) ≤ nI j from nI_le (a := 4) q1 (by omega))]
          by_cases q2 : 8 ≤ j
          · rw [if_pos (show (8 : Int32) ≤ nI j from nI_le (a := 8) q2 (by omega))]
            by_cases q3 : 12 ≤ j
            · rw [if_pos (show (12 : Int32) ≤ nI j from nI_le (a := 12) q3 (by omega))]
              by_cases q4 : 16 ≤ j
              · rw [if_pos (show (16 : Int32) ≤ nI j from nI_le (a := 16) q4 (by omega)), if_neg (by omega), if_neg (by omega), if_neg (by omega), if_neg (by omega), key]
              · rw [if_neg (show ¬ (16 : Int32) ≤ nI j from nI_ge (b := 16) (a := j) (by omega) (by omega)), if_neg (by omega), if_neg (by omega), if_neg (by omega), if_pos (by omega), key]
            · rw [if_neg (show ¬ (12 : Int32) ≤ nI j from nI_ge (b := 12) (a := j) (by omega) (by omega)), if_neg (by omega), if_neg (by omega), if_pos (by omega), key]
          · rw [if_neg (show ¬ (8 : Int32) ≤ nI j from nI_ge (b := 8) (a := j) (by omega) (by omega)), if_neg (by omega), if_pos (by omega), key]
        · rw [if_neg (show ¬ (4 : Int32) ≤ nI j from nI_ge (b := 4) (a := j) (by omega) (by omega)), if_pos (by omega), key])
      (fun c _ => by
        show X1_feed_b18 a x1 x2 x3 x4 x5 (nI 20) c = _
        unfold X1_feed_b18
        rw [if_pos (by decide)]) g ⟨Fr.rf, rfl, fun i => by rw [if_neg (by omega)]⟩ (n := fu_) (by unfold fu_; omega)
    obtain ⟨g1, hg1⟩ : ∃ g1, g1 = it_ (fun j c => pI c tp (t + j) (by_ (fx_ x1 x2 x3 x4 x5 (j / 4)) (j % 4)).toInt8.toInt32) g (19 + 1) := ⟨_, rfl⟩
    rw [← hg1] at k1 k2
    obtain ⟨p1, p2, p3⟩ := k2
    have ka : gK g1 a = 1 := by rw [p1.K ha.2.2.1, ha.1]
    have ia : gI g1 a 4 = nI t := by rw [p1.I ha.2.2.1 hne, t2]
    have F : Fr (fun q => q = tp ∨ q = a) g (pI g1 a 4 (nI (t + 20))) := (p1.mono (fun _ _ k => Or.inl k)).trans (Fr.pI (W := fun q => q = a) rfl) (fun _ _ k => Or.inr k)
    obtain ⟨B, N, Z, Ta, Re, Ac, Fi, Bo, Ke, Im, En, Ou⟩ := hp.all (LR := []) (LJ := [4]) (D := [1, 7]) F Ag.rf (fun r hr q _ k e => by
      rcases e with e | e
      · rw [e, b4] at k; exact hr (by simp [k])
      · rw [e, ha.2.1] at k; exact hr (by simp [k])) (fun i _ => p1.R ha.2.2.1 hne i) (fun i hi => by rw [I_pI, if_neg (by rintro ⟨-, q⟩; exact hi (by simp [q])), p1.I ha.2.2.1 hne]) hM (by decide)
    refine ⟨nI (t + 20), pI g1 a 4 (nI (t + 20)), σ5, ?_, ?_, ⟨_, _, _, _, _, _, _, _, _, B (by decide), N (by decide), Z (by decide), ⟨⟨tp, ?_, ?_, ?_, b4, ?_, fun i hi => ?_⟩, ⟨t + 20, hle, ?_, ?_⟩, ?_⟩, Re (by decide), Ac (by decide), Fi (by decide), Bo (by decide), Ke (by decide), Im (by decide), En, Ou⟩⟩
    · rw [show (lp_ (fun a1 : Int32 × GS => X1_feed_b18 a x1 x2 x3 x4 x5 a1.1 a1.2) fu_ (0, g)) = _ from k1, e_ob, e_wk ka, ia, e20, I_pI, if_pos ⟨rfl, rfl⟩]
    · rw [c1, e_ob, c2, e_ob, c3, e_ob, c4, e_ob, c5, e_ob, i5]
    · rw [R_pI, p1.R ha.2.2.1 hne, b1]
    · rw [K_pI, p1.K b5, b2]
    · rw [N_pI, p1.N b5, b3]
    · exact F.lt b5
    · rw [I_pI, if_neg (by rintro ⟨q, -⟩; exact hne q.symm), p3, hrow]
      by_cases q : t ≤ i ∧ i < t + 20
      · rw [if_pos q, if_pos q]
        exact ⟨rfl, by_rg _⟩
      · rw [if_neg (show ¬ (t ≤ i ∧ i < t + (19 + 1)) from q), if_neg q]
        exact b6 i hi
    · rw [I_pI, if_pos ⟨rfl, rfl⟩]
    · rw [i5]
    · rw [I_pI, if_neg (by rintro ⟨-, q⟩; cases q), p1.I ha.2.2.1 hne, hM.I (by decide), b7]
  · have h1 : ¬ nI (t + 20) ≤ 700 := nI_ge (a := 700) (by omega) (by omega)
    rw [if_neg h1, if_neg h1]
    exact ⟨-1, g, s_I σ 0 0, rfl, rfl, ⟨_, _, _, _, _, _, _, _, _, hp0⟩⟩
end
section
/-! LAWS: acts (own work) -/
set_option maxRecDepth 100000
theorem AcR.push {g : GS} {ρ : Nat → Nat} {xs : List Nat} {m h : Nat} {row A row' A' : Nat → Int32} {z k : Nat} {w : Int32} (hc : AcR g ρ xs m h row A) (hz : SetP g ρ 0 z m row) (hrow : RowOK row m h) (hk : k < 6 + m) (hr : ∀ i, row' i = if i = k then w else row i) (h1 : A' (2 * xs.length) = nI k) (h2 : A' (2 * xs.length + 1) = row k) (h3 : ∀ i, i < 2 * xs.length → A' i = A i) : AcR g ρ (xs ++ [z]) m h row' A' := by
  obtain ⟨S, s1, s2⟩ := hc
  refine ⟨fun j => if j = xs.length then row else if j = xs.length + 1 then row' else S j, fun i hi => ?_, fun j y hy => ?_⟩
  · dsimp only
    rw [len_snoc, if_neg (by omega), if_pos rfl]
  · rcases get_snoc hy with ⟨q1, q2⟩ | ⟨q1, q2⟩
    · obtain ⟨b1, b2, q, b3, b4, b5⟩ := s2 j y q2
      dsimp only
      rw [if_neg (by omega), if_neg (by omega)]
      refine ⟨b1, b2, q, b3, by rw [h3 _ (by omega), b4], fun i hi => ?_⟩
      rw [b5 i hi, h3 _ (by omega)]
      by_cases e : j + 1 = xs.length
      · rw [if_pos e, e, s1 i hi]
      · rw [if_neg e, if_neg (show ¬ j + 1 = xs.length + 1 by omega)]
    · subst q1 q2
      dsimp only
      rw [if_pos rfl, if_neg (by omega), if_pos rfl]
      refine ⟨hz, hrow, k, hk, h1, fun i _ => ?_⟩
      rw [h2, hr]
      by_cases e : i = k
      · rw [if_pos e, e]
      · rw [if_neg e, if_neg e]
theorem AcR.drop {g : GS} {ρ : Nat → Nat} {xs : List Nat} {m h : Nat} {row A A' : Nat → Int32} (hc : AcR g ρ xs m h row A) (hl : 0 < xs.length) (h3 : ∀ i, i < 2 * (xs.length - 1) → A' i = A (i + 2)) : AcR g ρ (xs.eraseIdx 0) m h row A' := by
  obtain ⟨S, s1, s2⟩ := hc
  have hlen : (xs.eraseIdx 0).length = xs.length - 1 := by rw [List.length_eraseIdx_of_lt hl]
  refine ⟨fun j => S (j + 1), fun i hi => ?_, fun j y hy => ?_⟩
  · dsimp only
    rw [hlen, show xs.length - 1 + 1 = xs.length by omega, s1 i hi]
  · have hj : j < xs.length - 1 := by
      have := (List.getElem?_eq_some_iff.mp hy).1
      omega
    have hy2 : xs[j + 1]? = some y := by
      rw [← hy, List.getElem?_eraseIdx, if_neg (by omega)]
    obtain ⟨b1, b2, q, b3, b4, b5⟩ := s2 (j + 1) y hy2
    refine ⟨b1, b2, q, b3, by rw [h3 _ (by omega), show 2 * j + 2 = 2 * (j + 1) by omega, b4], fun i hi => ?_⟩
    dsimp only
    rw [b5 i hi, h3 _ (by omega), show 2 * j + 1 + 2 = 2 * (j + 1) + 1 by omega]
/-- what becomes leaves of the acts' array -/
def Bec (A A' : Nat → Int32) (c k : Nat) (ov : Int32) : Prop := A' (2 * (if c = 40 then 39 else c)) = nI k ∧ A' (2 * (if c = 40 then 39 else c) + 1) = ov ∧ ∀ i, i < 2 * (if c = 40 then 39 else c) → A' i = if c = 40 then A (i + 2) else A i
theorem becomes_l {σ : MS} {c k : Nat} (w : Int32) (hc : m_I σ 56 = nI c) (hc4 : c ≤ 40) (hk : k < 12) : ∃ σ', X4_becomes (nI k) w σ = some (m_A σ 53 k, σ') ∧ Mf [56] [53, 55] σ σ' ∧ m_I σ' 56 = nI ((if c = 40 then 39 else c) + 1) ∧ (∀ i, m_A σ' 53 i = if i = k then w else m_A σ 53 i) ∧ Bec (m_A σ 55) (m_A σ' 55) c k (m_A σ 53 k) := by
  have fin : ∀ (σ1 : MS) (d : Nat), Mf [56] [55] σ σ1 → m_I σ1 56 = nI d → d ≤ 39 → ∃ σ', X4_becomes_j47 (nI k) w σ1 = some (m_A σ 53 k, σ') ∧ Mf [56] [53, 55] σ σ' ∧ m_I σ' 56 = nI (d + 1) ∧ (∀ i, m_A σ' 53 i = if i = k then w else m_A σ 53 i) ∧ (m_A σ' 55 (2 * d) = nI k ∧ m_A σ' 55 (2 * d + 1) = m_A σ 53 k ∧ ∀ i, i < 2 * d → m_A σ' 55 i = m_A σ1 55 i) := by
    intro σ1 d hM hd hd2
    have e2 : (2 : Int32) * nI d = nI (2 * d) := (Int32.ofNat_mul 2 d).symm
    have e53 : ∀ i, m_A σ1 53 i = m_A σ 53 i := fun i => hM.A (by decide) i
    refine ⟨s_A (s_I (s_A (s_A σ1 55 (2 * d) (nI k)) 55 (2 * d + 1) (m_A σ 53 k)) 56 (nI (d + 1))) 53 k w, ?_, ?_, rfl, fun i => ?_, ?_, ?_, fun i hi => ?_⟩
    · unfold X4_becomes_j47
      rw [hd, e2, nI_1, nI_1, e_inN hk (by omega), e_inN (by omega) (by omega), e_inN (by omega) (by omega), e_inN hk (by omega), nI_clamp (by omega), nI_clamp (by omega), nI_clamp (by omega), e53]
    · exact (((((Mf.rf (LI := [56]) (LA := [53, 55])).trans hM (by decide) (by decide)).trans (Mf.sA (LI := []) (LA := [55]) (by decide)) (fun _ k => by cases k) (by decide)).trans (Mf.sA (LI := []) (LA := [55]) (by decide)) (fun _ k => by cases k) (by decide)).trans (Mf.sI (LI := [56]) (LA := []) (by decide)) (by decide) (fun _ k => by cases k)).trans (Mf.sA (LI := []) (LA := [53]) (by decide)) (fun _ k => by cases k) (by decide)
    · rw [rA_sA]
      by_cases q : i = k
      · rw [if_pos ⟨rfl, q⟩, if_pos q]
      · rw [if_neg (by rintro ⟨-, j⟩; exact q j), if_neg q]
        rw [rA_sI, rA_sA, if_neg (by rintro ⟨j, -⟩; cases j), rA_sA, if_neg (by rintro ⟨j, -⟩; cases j)]
        exact e53 i
    · rw [rA_sA, if_neg (by rintro ⟨j, -⟩; cases j), rA_sI, rA_sA, if_neg (by rintro ⟨-, j⟩; omega), rA_sA, if_pos ⟨rfl, rfl⟩]
    · rw [rA_sA, if_neg (by rintro ⟨j, -⟩; cases j), rA_sI, rA_sA, if_pos ⟨rfl, rfl⟩]
    · rw [rA_sA, if_neg (by rintro ⟨j, -⟩; cases j), rA_sI, rA_sA, if_neg (by rintro ⟨-, j⟩; omega), rA_sA, if_neg (by rintro ⟨-, j⟩; omega)]
  unfold X4_becomes Bec
  rw [hc]
  by_cases h40 : c = 40
  · obtain ⟨k1, k2⟩ := for_l (enc := fun (c : MS) t => (nI (t + 2), c)) (fun a : Int32 × MS => X4_becomes_b11 (nI k) w a.1 a.2) 77 (fun t c => s_A c 55 t (m_A c 55 (t + 2))) (fun c => c)
      (fun t c => Mf [56] [55] σ c ∧ m_I c 56 = nI 40 ∧ ∀ i, m_A c 55 i = if i < t then m_A σ 55 (i + 2) else m_A σ 55 i)
      (fun t c ht ⟨p1, p2, p3⟩ => ⟨p1.trans (Mf.sA (LI := []) (LA := [55]) (by decide)) (fun _ k => by cases k) (by decide), p2, fun i => by
        rw [rA_sA]
        by_cases q : i = t
        · rw [if_pos ⟨rfl, q⟩, if_pos (by omega), p3, if_neg (by omega), q]
        · rw [if_neg (by rintro ⟨-, k⟩; exact q k), p3]
          by_cases q2 : i < t
          · rw [if_pos q2, if_pos (by omega)]
          · rw [if_neg q2, if_neg (by omega)]⟩)
      (fun t c ht ⟨p1, p2, p3⟩ => by
        show X4_becomes_b11 (nI k) w (nI (t + 2)) c = _
        have e3 : nI (t + 2) - 2 = nI t := by
          rw [← nI_add t 2]
          show nI t + 2 - 2 = nI t
          rw [Int32.add_sub_cancel]
        unfold X4_becomes_b11
        rw [if_neg (show ¬ (80 : Int32) ≤ nI (t + 2) from nI_ge (a := t + 2) (b := 80) (by omega) (by omega)), e_inN (by omega) (by omega), e3, e_inN (by omega) (by omega), nI_clamp (by omega), nI_clamp (by omega), nI_1])
      (fun c _ => by
        show X4_becomes_b11 (nI k) w (nI 80) c = _
        unfold X4_becomes_b11
        rw [if_pos (by decide)]) σ ⟨Mf.rf, by rw [hc, h40], fun i => by rw [if_neg (by omega)]⟩ (n := fu_) (by unfold fu_; omega)
    obtain ⟨σ1, hσ1⟩ : ∃ σ1, σ1 = it_ (fun t c => s_A c 55 t (m_A c 55 (t + 2))) σ (77 + 1) := ⟨_, rfl⟩
    rw [← hσ1] at k1 k2
    obtain ⟨p1, p2, p3⟩ := k2
    obtain ⟨σ', f1, f2, f3, f4, f5, f6, f7⟩ := fin (s_I σ1 56 (nI 39)) 39 (p1.trans (Mf.sI (LI := [56]) (LA := []) (by decide)) (by decide) (fun _ k => by cases k)) rfl (by omega)
    refine ⟨σ', ?_, f2, ?_, f4, ?_, ?_, fun i hi => ?_⟩
    · rw [h40, if_pos (by decide), show (lp_ (fun a : Int32 × MS => X4_becomes_b11 (nI k) w a.1 a.2) fu_ (2, σ)) = _ from k1, e_ob, p2, show nI 40 - 1 = nI 39 by decide, f1]
    · rw [if_pos h40]; exact f3
    · rw [if_pos h40]; exact f5
    · rw [if_pos h40]; exact f6
    · rw [if_pos h40] at hi
      rw [f7 i hi, if_pos h40, rA_sI, p3, if_pos (by omega)]
  · have h40' : ¬ nI c = 40 := fun q => h40 (nI_inj (by omega) (by omega) q)
    obtain ⟨σ', f1, f2, f3, f4, f5, f6, f7⟩ := fin σ c Mf.rf hc (by omega)
    refine ⟨σ', ?_, f2, ?_, f4, ?_, ?_, fun i hi => ?_⟩
    · rw [if_neg h40', f1]
    · rw [if_neg h40]; exact f3
    · rw [if_neg h40]; exact f5
    · rw [if_neg h40]; exact f6
    · rw [if_neg h40] at hi
      rw [f7 i hi, if_neg h40]
/-- keep -/
theorem keep_l {a o sc v n k h x m T : Nat} {g : GS} {ρ : Nat → Nat} {σ : MS} (hp : RelP a o sc v n k h x m T g ρ σ) : ∃ g' ρ' dc ds l xs c, X1_keep a g = some (((), g'), dc, ds) ∧ Fr (fun q => ρ q = 3) g g' ∧ Ag g ρ ρ' ∧ gR g' a 7 = l + 1 ∧ LiP g' ρ' 3 l xs ∧ dc ≤ 9 ∧ ds ≤ 190 ∧ m_I σ 56 = nI c ∧ c ≤ 40 ∧ xs.length = (if c = 40 then 39 else c) + 1 ∧
    ∀ (k' : Nat) (w : Int32) (row' A' : Nat → Int32), k' < 6 + m → (∀ i, row' i = if i = k' then w else m_A σ 53 i) → Bec (m_A σ 55) A' c k' (m_A σ 53 k') → AcR g' ρ' xs m h row' A' := by
  have ha := hp.1.1.1
  obtain ⟨n1, n2, ⟨n3, n3'⟩, n4⟩ := hp.2.1
  obtain ⟨l, ys, c1, ⟨e, he⟩, c3, c4, c5⟩ := hp.2.2.2.2.2.1
  have hE := hp.2.2.2.2.2.2.2.2.2.2.1
  obtain ⟨g1, dc1, ds1, a1, a2, a3, a4, a5, a6⟩ := X3_copy_l hE.1 n2 n3' 0
  have he1 : LiPe g1 (nr ρ g 0) 3 l e ys := he.to a3 nr_ag (fun _ _ _ k => k)
  obtain ⟨g2, e', dc2, ds2, d1, d2, d3, d4, d5, d6, d7, d8, d9⟩ := J2_add_l he1 (x := gz g) (by rw [a3.S]; obtain ⟨⟨d, hd, -⟩, -⟩ := hE.1; exact ⟨d, hd⟩) (by omega) a4 (by rw [a2.1]; rfl)
  have F1 : Fr (fun q => nr ρ g 0 q = 3) g1 g2 := he1.fr d3
  have hF : Fr (fun q => ρ q = 3) g g2 := (a3.mono (fun _ _ k => k.elim)).trans F1 (fun q hq k => by rw [nr_lt hq] at k; exact k)
  have hA : Ag g ρ (nr (nr ρ g 0) g1 3) := nr_ag.trans nr_ag a3.z
  have ha3 : ¬ ρ a = 3 := by rw [ha.2.1]; decide
  have ha1 : gK g1 a = 1 := by rw [a3.K ha.2.2.1, ha.1]
  have ha2 : gK g2 a = 1 := by rw [hF.K ha.2.2.1, ha.1]
  have r7 : gR g2 a 7 = l + 1 := by rw [hF.R ha.2.2.1 ha3, c1]
  have h0 : ∀ q, nr ρ g 0 q = 0 ∨ nr ρ g 0 q = 0 → ¬ nr ρ g 0 q = 3 := fun q k k2 => by rw [k2] at k; omega
  have hZ : SetP g2 (nr (nr ρ g 0) g1 3) 0 (gz g) m (m_A σ 53) := a2.to F1 nr_ag (fun q _ k => h0 q k)
  have hAc : AcR g2 (nr (nr ρ g 0) g1 3) ys m h (m_A σ 53) (m_A σ 55) := c5.to hF hA (fun q _ k k2 => by rw [k] at k2; cases k2)
  have hds : ds2 + ds1 ≤ 190 := by omega
  have hdc : dc2 + dc1 ≤ 9 := by omega
  have hdc0 : 0 + dc2 + dc1 ≤ 9 := by omega
  have hl3 : ¬ ρ l = 0 := by rw [he.2.1]; decide
  have hpre : ∀ K : Unit → GS → Option ((Unit × GS) × Nat × Nat), (wk_ g a 1 <| nn_ (gR g a 7) fun b2 => nn_ (gR g a 1) fun b4 => wk_ g b4 3 <| ca_ (X3_copy b4 g) fun r9 g8 => wk_ g8 b2 12 <| ca_ (J2_add b2 r9 g8) fun r15 g14 => K () g14) = bp_ dc1 ds1 (bp_ dc2 ds2 (K () g2)) := by
    intro K
    rw [e_wk ha.1, c1, e_nn, n1, e_nn, e_wk n2.1, a1, e_ca, e_wk he1.1, d1, e_ca]
  have hkeep : X1_keep a g = bp_ dc1 ds1 (bp_ dc2 ds2 (wk_ g2 a 1 <| nn_ (gR g2 a 7) fun b19 => wk_ g2 b19 12 <| ob_ (J2_size b19 g2) fun r23 => if r23 ≤ 40 then some (((), g2), 0, 0) else nn_ (gR g2 a 7) fun b25 => wk_ g2 b25 12 <| cb_ (J2_remove b25 0 g2) fun r30 g29 => some (((), g29), 0, 0))) := hpre (fun _ g14 => wk_ g14 a 1 <| nn_ (gR g14 a 7) fun b19 => wk_ g14 b19 12 <| ob_ (J2_size b19 g14) fun r23 => if r23 ≤ 40 then some (((), g14), 0, 0) else nn_ (gR g14 a 7) fun b25 => wk_ g14 b25 12 <| cb_ (J2_remove b25 0 g14) fun r30 g29 => some (((), g29), 0, 0))
  rw [e_wk ha2, r7, e_nn, e_wk d2.1, J2_size_l ⟨e', d2⟩, e_ob, len_snoc] at hkeep
  by_cases h40 : ys.length = 40
  · have hgt : ¬ nI (ys.length + 1) ≤ 40 := nI_ge (a := 40) (by omega) (by omega)
    have hy0 : (ys ++ [gz g])[0]? = some ((ys ++ [gz g])[0]'(by simp)) := List.getElem?_eq_getElem _
    obtain ⟨g3, f1, f2, f3, f4, f5, f6⟩ := J2_remove_l d2 hy0
    have F3 : Fr (fun q => nr (nr ρ g 0) g1 3 q = 3) g2 g3 := f3.mono (fun q _ k => by
      rcases k with k | k
      · rw [k]; exact d2.2.1
      · rw [k]; exact f5)
    have hF' : Fr (fun q => ρ q = 3) g g3 := hF.trans F3 (fun q hq k => by rw [hA q hq] at k; exact k)
    have herase : (ys ++ [gz g]).eraseIdx 0 = ys.eraseIdx 0 ++ [gz g] := List.eraseIdx_append_of_lt_length (by omega) _
    have hlen : (ys.eraseIdx 0).length = 39 := by rw [List.length_eraseIdx_of_lt (by omega), h40]
    rw [herase] at f2
    refine ⟨g3, nr (nr ρ g 0) g1 3, dc2 + dc1, ds2 + ds1, l, ys.eraseIdx 0 ++ [gz g], 40, ?_, hF', hA, ?_, ⟨e', f2⟩, hdc, hds, by rw [c3, h40], Nat.le_refl _, by rw [if_pos rfl, len_snoc, hlen], fun k' w row' A' hk hr hB => ?_⟩
    · rw [hkeep, if_neg hgt, e_nn, e_wk d2.1, show J2_remove l 0 g2 = _ from f1, e_cb, e_b0, e_bp]
    · rw [hF'.R ha.2.2.1 ha3, c1]
    · unfold Bec at hB
      rw [if_pos rfl] at hB
      obtain ⟨B1, B2, B3⟩ := hB
      have hAc3 : AcR g3 (nr (nr ρ g 0) g1 3) ys m h (m_A σ 53) (m_A σ 55) := hAc.to F3 Ag.rf (fun q _ k k2 => by rw [k] at k2; cases k2)
      have hZ3 : SetP g3 (nr (nr ρ g 0) g1 3) 0 (gz g) m (m_A σ 53) := hZ.to F3 Ag.rf (fun q _ k k2 => by rw [k2] at k; omega)
      exact (hAc3.drop (A' := fun i => m_A σ 55 (i + 2)) (by omega) (fun i _ => rfl)).push hZ3 n4 hk hr (by rw [hlen]; exact B1) (by rw [hlen]; exact B2) (fun i hi => by
        rw [hlen] at hi
        rw [B3 i hi, if_pos rfl])
  · have hle : nI (ys.length + 1) ≤ 40 := nI_le (b := 40) (by omega) (by omega)
    refine ⟨g2, nr (nr ρ g 0) g1 3, dc2 + dc1, ds2 + ds1, l, ys ++ [gz g], ys.length, ?_, hF, hA, r7, ⟨e', d2⟩, hdc, hds, c3, c4, by rw [if_neg h40, len_snoc], fun k' w row' A' hk hr hB => ?_⟩
    · rw [hkeep, if_pos hle, e_b0, e_bp]
    · unfold Bec at hB
      rw [if_neg h40] at hB
      obtain ⟨B1, B2, B3⟩ := hB
      exact hAc.push hZ n4 hk hr B1 B2 (fun i hi => by rw [B3 i hi, if_neg h40])
end
section
/-! LAWS: hole, lag, wrist, eye, behind, hand (own work) -/
set_option maxRecDepth 100000
theorem rel_act {a o sc v n k h x m T l : Nat} {g g1 g2 : GS} {ρ ρ1 ρ2 : Nat → Nat} {σ σ' : MS} {xs : List Nat} (hp : RelP a o sc v n k h x m T g ρ σ) (hF : Fr (fun q => ρ q = 3) g g1) (hA : Ag g ρ ρ1) (h7 : gR g1 a 7 = l + 1) (hl : LiP g1 ρ1 3 l xs) (hF2 : Fr (fun q => ρ1 q = 2) g1 g2) (hA2 : Ag g1 ρ1 ρ2) (hS : SetP g2 ρ2 2 x m (m_A σ' 53)) (hR : RowOK (m_A σ' 53) m h) (hM : Mf [0, 56] [53, 55] σ σ') (hc : m_I σ' 56 = nI xs.length) (hlen : xs.length ≤ 40) (hAc : AcR g1 ρ1 xs m h (m_A σ' 53) (m_A σ' 55)) : RelP a o sc v n k h x m T g2 ρ2 σ' := by
  have ha := hp.1.1.1
  obtain ⟨n1, n2, ⟨n3, n3'⟩, n4⟩ := hp.2.1
  have F : Fr (fun q => ρ q = 3 ∨ ρ q = 2) g g2 := (hF.mono (fun _ _ k => Or.inl k)).trans hF2 (fun q hq k => by rw [hA q hq] at k; exact Or.inr k)
  have hAA : Ag g ρ ρ2 := hA.trans hA2 hF.z
  have ha3 : ¬ (ρ a = 3 ∨ ρ a = 2) := by rw [ha.2.1]; omega
  have ha2 : ¬ ρ1 a = 2 := by rw [hA a ha.2.2.1, ha.2.1]; omega
  obtain ⟨B, N, Z, Ta, Re, Ac, Fi, Bo, Ke, Im, En, Ou⟩ := hp.all (LR := []) (LJ := []) (D := [3, 2]) F hAA (fun r hr q _ k e => by
    rw [k] at e
    rcases e with e | e
    · exact hr (by simp [e])
    · exact hr (by simp [e])) (fun i _ => F.R ha.2.2.1 ha3 i) (fun i _ => F.I ha.2.2.1 ha3 i) hM (by decide)
  refine ⟨B (by decide), ⟨by rw [F.R ha.2.2.1 ha3, n1], hS, ⟨by rw [hM.I (by decide)]; exact n3, n3'⟩, hR⟩, Z (by decide), Ta (by decide), Re (by decide), ⟨l, xs, ?_, ?_, hc, hlen, ?_⟩, Fi (by decide), Bo (by decide), Ke (by decide), Im (by decide), En, Ou⟩
  · rw [hF2.R (hF.lt ha.2.2.1) ha2, h7]
  · exact hl.to hF2 hA2 (fun q _ k k2 => by rw [k2] at k; omega)
  · exact hAc.to hF2 hA2 (fun q _ k k2 => by rw [k2] at k; omega)
theorem act_l {a o sc v n k h x m T : Nat} {g : GS} {ρ : Nat → Nat} {σ : MS} (hp : RelP a o sc v n k h x m T g ρ σ) {f k' : Nat} {w : Int32} (hk : (f = 0 ∧ k' = 0) ∨ (f = 1 ∧ k' = 1) ∨ (f = 2 ∧ k' = 2) ∨ (f = 3 ∧ k' = 3) ∨ (f = 4 ∧ k' = 5) ∨ (f = 5 ∧ k' = 4)) (hrow : RowOK (fun i => if i = k' then w else m_A σ 53 i) m h) :
    ∃ g1 ρ1 dc ds σ', X1_keep a g = some (((), g1), dc, ds) ∧ gK g1 a = 1 ∧ gR g1 a 1 = x + 1 ∧ gK g1 x = 3 ∧ gI g1 x f = m_A σ 53 k' ∧ X4_becomes (nI k') w σ = some (m_A σ 53 k', σ') ∧ RelP a o sc v n k h x m T (pI g1 x f w) ρ1 σ' ∧ m_I σ' 0 = m_I σ 0 ∧ dc ≤ 9 ∧ ds ≤ 190 := by
  have ha := hp.1.1.1
  obtain ⟨n1, n2, ⟨n3, n3'⟩, n4⟩ := hp.2.1
  obtain ⟨g1, ρ1, dc, ds, l, xs, c, a1, a2, a3, a4, a5, a6, a7, a8, a9, a10, a11⟩ := keep_l hp
  obtain ⟨σ', b1, b2, b3, b4, b5⟩ := becomes_l w a8 a9 (show k' < 12 by omega)
  have ha3 : ¬ ρ a = 3 := by rw [ha.2.1]; decide
  have hx3 : ¬ ρ x = 3 := by rw [n2.2.1]; decide
  have n2' : SetP g1 ρ1 2 x m (m_A σ 53) := n2.to a2 a3 (fun q _ k k2 => by rw [k2] at k; omega)
  have hrow' : m_A σ' 53 = fun i => if i = k' then w else m_A σ 53 i := funext b4
  have hx2 : ρ1 x = 2 := n2'.2.1
  refine ⟨g1, ρ1, dc, ds, σ', a1, by rw [a2.K ha.2.2.1, ha.1], by rw [a2.R ha.2.2.1 ha3, n1], n2'.1, ?_, b1, ?_, by rw [b2.I (by decide)], a6, a7⟩
  · obtain ⟨-, -, -, ⟨q0, q1, q2, q3, q4, q5⟩, -⟩ := n2'
    rcases hk with ⟨rfl, rfl⟩ | ⟨rfl, rfl⟩ | ⟨rfl, rfl⟩ | ⟨rfl, rfl⟩ | ⟨rfl, rfl⟩ | ⟨rfl, rfl⟩ <;> assumption
  · refine rel_act hp a2 a3 a4 a5 (Fr.pI (W := fun q => ρ1 q = 2) hx2) Ag.rf ?_ ?_ ((Mf.rf (LI := [0, 56]) (LA := [53, 55])).trans b2 (by decide) (by decide)) (by rw [b3, a10]) (by rw [a10]; split <;> omega) (a11 k' w _ _ (by omega) b4 b5)
    · rw [hrow']; exact n2'.put hk
    · rw [hrow']; exact hrow
theorem op_hole {a o : Nat} {g : GS} {σ : MS} (hr : Rel a o g σ) (w : Int32) : OpI a o (X1_hole a w g) (X4_hole w σ) := by
  obtain ⟨ρ, sc, v, n, k, h, x, m, T, hp⟩ := hr
  have hp0 := hp.m (s0_eq (c := 0))
  have ha := hp.1.1.1
  unfold X1_hole X4_hole
  rw [X1_in_l, X4_within_l, e_ob, e_ob]
  cases hw : wi_ w 1 60 with
  | false =>
    obtain ⟨rf, r1, r2, r3, c4, c5, c6⟩ := hp0.refu 1 (by omega) (-1)
    have c4' : X4_refuses 1 (-1) (s_I σ 0 0) = _ := c4
    have c5' : X1_refuse a 1 g = _ := c5
    refine ⟨(-1), _, 0, 0, _, ?_, ?_, ⟨_, _, _, _, _, _, _, _, _, c6⟩, by omega, by omega⟩
    · show (wk_ g a 1 <| cb_ (X1_refuse a 1 g) _) = _
      rw [e_wk ha.1, c5', e_cb]
    · rw [if_neg (show ¬ (false = true) by decide), if_pos rfl, c4', e_cb]
  | true =>
    obtain ⟨w1, w2⟩ := wi_t.mp hw
    have k1 : ((1 : Int32)).toInt = 1 := by decide
    have k2 : ((60 : Int32)).toInt = 60 := by decide
    rw [k1] at w1
    rw [k2] at w2
    obtain ⟨g1, ρ1, dc, ds, σ', b1, b2, b3, b4, b5, b6, b7, b8, b9, b10⟩ := act_l hp0 (f := 0) (k' := 0) (w := w) (by omega) (hp0.2.1.2.2.2.put (by omega))
    have b6' : X4_becomes 0 w (s_I σ 0 0) = _ := b6
    refine ⟨m_A (s_I σ 0 0) 53 0, _, dc, ds, σ', ?_, ?_, ⟨_, _, _, _, _, _, _, _, _, b7⟩, by omega, by omega⟩
    · show (wk_ g a 1 <| ca_ (X1_keep a g) _) = _
      rw [e_wk ha.1, b1, e_ca, e_wk b2, b3, e_nn, e_wk b4, e_nn, e_wk b4, b5, e_b0]
    · rw [if_pos rfl, if_neg nn01, b6', e_cb]
theorem op_lag {a o : Nat} {g : GS} {σ : MS} (hr : Rel a o g σ) (w : Int32) : OpI a o (X1_lag a w g) (X4_lag w σ) := by
  obtain ⟨ρ, sc, v, n, k, h, x, m, T, hp⟩ := hr
  have hp0 := hp.m (s0_eq (c := 0))
  have ha := hp.1.1.1
  unfold X1_lag X4_lag
  rw [X1_in_l, X4_within_l, e_ob, e_ob]
  cases hw : wi_ w 0 24 with
  | false =>
    obtain ⟨rf, r1, r2, r3, c4, c5, c6⟩ := hp0.refu 1 (by omega) (-1)
    have c4' : X4_refuses 1 (-1) (s_I σ 0 0) = _ := c4
    have c5' : X1_refuse a 1 g = _ := c5
    refine ⟨(-1), _, 0, 0, _, ?_, ?_, ⟨_, _, _, _, _, _, _, _, _, c6⟩, by omega, by omega⟩
    · show (wk_ g a 1 <| cb_ (X1_refuse a 1 g) _) = _
      rw [e_wk ha.1, c5', e_cb]
    · rw [if_neg (show ¬ (false = true) by decide), if_pos rfl, c4', e_cb]
  | true =>
    obtain ⟨w1, w2⟩ := wi_t.mp hw
    have k1 : ((0 : Int32)).toInt = 0 := by decide
    have k2 : ((24 : Int32)).toInt = 24 := by decide
    rw [k1] at w1
    rw [k2] at w2
    obtain ⟨g1, ρ1, dc, ds, σ', b1, b2, b3, b4, b5, b6, b7, b8, b9, b10⟩ := act_l hp0 (f := 1) (k' := 1) (w := w) (by omega) (hp0.2.1.2.2.2.put (by omega))
    have b6' : X4_becomes 1 w (s_I σ 0 0) = _ := b6
    refine ⟨m_A (s_I σ 0 0) 53 1, _, dc, ds, σ', ?_, ?_, ⟨_, _, _, _, _, _, _, _, _, b7⟩, by omega, by omega⟩
    · show (wk_ g a 1 <| ca_ (X1_keep a g) _) = _
      rw [e_wk ha.1, b1, e_ca, e_wk b2, b3, e_nn, e_wk b4, e_nn, e_wk b4, b5, e_b0]
    · rw [if_pos rfl, if_neg nn01, b6', e_cb]
theorem op_wrist {a o : Nat} {g : GS} {σ : MS} (hr : Rel a o g σ) (w : Int32) : OpI a o (X1_wrist a w g) (X4_wrist w σ) := by
  obtain ⟨ρ, sc, v, n, k, h, x, m, T, hp⟩ := hr
  have hp0 := hp.m (s0_eq (c := 0))
  have ha := hp.1.1.1
  unfold X1_wrist X4_wrist
  rw [X1_in_l, X4_within_l, e_ob, e_ob]
  cases hw : wi_ w 1 90 with
  | false =>
    obtain ⟨rf, r1, r2, r3, c4, c5, c6⟩ := hp0.refu 1 (by omega) (-1)
    have c4' : X4_refuses 1 (-1) (s_I σ 0 0) = _ := c4
    have c5' : X1_refuse a 1 g = _ := c5
    refine ⟨(-1), _, 0, 0, _, ?_, ?_, ⟨_, _, _, _, _, _, _, _, _, c6⟩, by omega, by omega⟩
    · show (wk_ g a 1 <| cb_ (X1_refuse a 1 g) _) = _
      rw [e_wk ha.1, c5', e_cb]
    · rw [if_neg (show ¬ (false = true) by decide), if_pos rfl, c4', e_cb]
  | true =>
    obtain ⟨w1, w2⟩ := wi_t.mp hw
    have k1 : ((1 : Int32)).toInt = 1 := by decide
    have k2 : ((90 : Int32)).toInt = 90 := by decide
    rw [k1] at w1
    rw [k2] at w2
    obtain ⟨g1, ρ1, dc, ds, σ', b1, b2, b3, b4, b5, b6, b7, b8, b9, b10⟩ := act_l hp0 (f := 2) (k' := 2) (w := w) (by omega) (hp0.2.1.2.2.2.put (by omega))
    have b6' : X4_becomes 2 w (s_I σ 0 0) = _ := b6
    refine ⟨m_A (s_I σ 0 0) 53 2, _, dc, ds, σ', ?_, ?_, ⟨_, _, _, _, _, _, _, _, _, b7⟩, by omega, by omega⟩
    · show (wk_ g a 1 <| ca_ (X1_keep a g) _) = _
      rw [e_wk ha.1, b1, e_ca, e_wk b2, b3, e_nn, e_wk b4, e_nn, e_wk b4, b5, e_b0]
    · rw [if_pos rfl, if_neg nn01, b6', e_cb]
theorem op_eye {a o : Nat} {g : GS} {σ : MS} (hr : Rel a o g σ) (w : Int32) : OpI a o (X1_eye a w g) (X4_eye w σ) := by
  obtain ⟨ρ, sc, v, n, k, h, x, m, T, hp⟩ := hr
  have hp0 := hp.m (s0_eq (c := 0))
  have ha := hp.1.1.1
  unfold X1_eye X4_eye
  rw [X1_in_l, X4_within_l, e_ob, e_ob]
  cases hw : wi_ w (-30) 30 with
  | false =>
    obtain ⟨rf, r1, r2, r3, c4, c5, c6⟩ := hp0.refu 1 (by omega) (-99)
    have c4' : X4_refuses 1 (-99) (s_I σ 0 0) = _ := c4
    have c5' : X1_refuse a 1 g = _ := c5
    refine ⟨(-99), _, 0, 0, _, ?_, ?_, ⟨_, _, _, _, _, _, _, _, _, c6⟩, by omega, by omega⟩
    · show (wk_ g a 1 <| nn_ (gR g a 6) fun b18 => _) = _
      rw [e_wk ha.1, r1, e_nn, e_rk (by rw [r2]), r3, e_i1 (by decide) (by decide), e_wk r2, e_i1 (by decide) (by decide), cl_1]
    · rw [if_neg (show ¬ (false = true) by decide), if_pos rfl, c4', e_cb]
  | true =>
    obtain ⟨w1, w2⟩ := wi_t.mp hw
    have k1 : (((-30) : Int32)).toInt = (-30) := by decide
    have k2 : ((30 : Int32)).toInt = 30 := by decide
    rw [k1] at w1
    rw [k2] at w2
    obtain ⟨g1, ρ1, dc, ds, σ', b1, b2, b3, b4, b5, b6, b7, b8, b9, b10⟩ := act_l hp0 (f := 3) (k' := 3) (w := w) (by omega) (hp0.2.1.2.2.2.put (by omega))
    have b6' : X4_becomes 3 w (s_I σ 0 0) = _ := b6
    refine ⟨m_A (s_I σ 0 0) 53 3, _, dc, ds, σ', ?_, ?_, ⟨_, _, _, _, _, _, _, _, _, b7⟩, by omega, by omega⟩
    · show (wk_ g a 1 <| ca_ (X1_keep a g) _) = _
      rw [e_wk ha.1, b1, e_ca, e_wk b2, b3, e_nn, e_wk b4, e_nn, e_wk b4, b5, e_b0]
    · rw [if_pos rfl, if_neg nn01, b6', e_cb]
theorem op_behind {a o : Nat} {g : GS} {σ : MS} (hr : Rel a o g σ) (w : Int32) : OpI a o (X1_behind a w g) (X4_behind w σ) := by
  obtain ⟨ρ, sc, v, n, k, h, x, m, T, hp⟩ := hr
  have hp0 := hp.m (s0_eq (c := 0))
  have ha := hp.1.1.1
  unfold X1_behind X4_behind
  rw [X1_in_l, X4_within_l, e_ob, e_ob]
  cases hw : wi_ w 0 200 with
  | false =>
    obtain ⟨rf, r1, r2, r3, c4, c5, c6⟩ := hp0.refu 1 (by omega) (-1)
    have c4' : X4_refuses 1 (-1) (s_I σ 0 0) = _ := c4
    have c5' : X1_refuse a 1 g = _ := c5
    refine ⟨(-1), _, 0, 0, _, ?_, ?_, ⟨_, _, _, _, _, _, _, _, _, c6⟩, by omega, by omega⟩
    · show (wk_ g a 1 <| cb_ (X1_refuse a 1 g) _) = _
      rw [e_wk ha.1, c5', e_cb]
    · rw [if_neg (show ¬ (false = true) by decide), if_pos rfl, c4', e_cb]
  | true =>
    obtain ⟨w1, w2⟩ := wi_t.mp hw
    have k1 : ((0 : Int32)).toInt = 0 := by decide
    have k2 : ((200 : Int32)).toInt = 200 := by decide
    rw [k1] at w1
    rw [k2] at w2
    obtain ⟨g1, ρ1, dc, ds, σ', b1, b2, b3, b4, b5, b6, b7, b8, b9, b10⟩ := act_l hp0 (f := 5) (k' := 4) (w := w) (by omega) (hp0.2.1.2.2.2.put (by omega))
    have b6' : X4_becomes 4 w (s_I σ 0 0) = _ := b6
    refine ⟨m_A (s_I σ 0 0) 53 4, _, dc, ds, σ', ?_, ?_, ⟨_, _, _, _, _, _, _, _, _, b7⟩, by omega, by omega⟩
    · show (wk_ g a 1 <| ca_ (X1_keep a g) _) = _
      rw [e_wk ha.1, b1, e_ca, e_wk b2, b3, e_nn, e_wk b4, e_nn, e_wk b4, b5, e_b0]
    · rw [if_pos rfl, if_neg nn01, b6', e_cb]
theorem op_hand {a o : Nat} {g : GS} {σ : MS} (hr : Rel a o g σ) (w : Int32) : OpI a o (X1_hand a w g) (X4_hand w σ) := by
  obtain ⟨ρ, sc, v, n, k, h, x, m, T, hp⟩ := hr
  have hp0 := hp.m (s0_eq (c := 0))
  have ha := hp.1.1.1
  have hC := hp0.1.1
  have h5 : m_I (s_I σ 0 0) 5 = nI h := hC.2.2.2.2.1.2.2.1
  have h4 : h ≤ 4 := hC.2.2.2.2.1.2.2.2
  obtain ⟨l2, xs2, q21, q22, q23, -⟩ := hC.2.2.2.2.2.1.2.2
  have hks : gK g sc = 2 := hC.2.2.2.1.1
  have hm1 : (nI h - 1).toInt = (h : Int) - 1 := by
    have q1 : (nI h).toInt = (h : Int) := i_n (by omega)
    rw [i_sub (by rw [q1, k_1]; omega) (by rw [q1, k_1]; omega), q1, k_1]
  obtain ⟨rf, r1, r2, r3, c4, c5, c6⟩ := hp0.refu 1 (by omega) 0
  have c4' : X4_refuses 1 0 (s_I σ 0 0) = _ := c4
  have hbad : X4_hand_j18 (s_I σ 0 0) = some (0, s_A (s_I σ 0 0) 18 1 (m_A (s_I σ 0 0) 18 1 + 1)) := by
    unfold X4_hand_j18
    rw [c4', e_cb, if_pos (by decide)]
  unfold X1_hand X4_hand
  rw [e_wk ha.1, ha.2.2.2.1, e_nn, e_wk hks, q21, e_nn, e_wk q22.K, J2_size_l q22, e_ob, q23, X1_in_l, e_ob]
  cases hw : wi_ w (-1) (nI h - 1) with
  | false =>
    refine ⟨0, _, 0, 0, _, ?_, ?_, ⟨_, _, _, _, _, _, _, _, _, c6⟩, by omega, by omega⟩
    · rw [if_neg (show ¬ (false = true) by decide), if_pos rfl, r1, e_nn, e_rk (by rw [r2]), r3, e_i1 (by decide) (by decide), e_wk r2, e_i1 (by decide) (by decide), cl_1]
    · by_cases h1 : w < -1
      · rw [if_pos h1, hbad]
      · have h2 : ¬ w < m_I σ 5 := fun q => by
          have hh : m_I σ 5 = nI h := h5
          rw [hh, i_lt, i_n (by omega)] at q
          rw [i_lt, k_n1] at h1
          have := (wi_t (x := w) (lo := -1) (hi := nI h - 1)).mpr ⟨by rw [k_n1]; omega, by rw [hm1]; omega⟩
          rw [hw] at this
          cases this
        rw [if_neg h1, if_neg h2, hbad]
  | true =>
    obtain ⟨w1, w2⟩ := wi_t.mp hw
    rw [k_n1] at w1
    rw [hm1] at w2
    obtain ⟨g1, ρ1, dc, ds, σ', b1, b2, b3, b4, b5, b6, b7, b8, b9, b10⟩ := act_l hp0 (f := 4) (k' := 5) (w := w) (by omega) (hp0.2.1.2.2.2.put (by omega))
    have b6' : X4_becomes 5 w (s_I σ 0 0) = _ := b6
    have h1 : ¬ w < -1 := by rw [i_lt, k_n1]; omega
    have h2 : w < m_I σ 5 := by
      have hh : m_I σ 5 = nI h := h5
      rw [hh, i_lt, i_n (by omega)]
      omega
    refine ⟨1, _, dc, ds, σ', ?_, ?_, ⟨_, _, _, _, _, _, _, _, _, b7⟩, by omega, by omega⟩
    · rw [if_pos rfl, if_neg nn01, b1, e_ca, e_wk b2, b3, e_nn, e_wk b4, e_b0]
    · rw [if_neg h1, if_pos h2, b6', e_cb]
end
section
/-! LAWS: chalk (own work) -/
set_option maxRecDepth 100000
theorem chalk_lp {σ : MS} {m : Nat} (x w : Int32) (h4 : m_I σ 4 = nI m) (hm0 : 0 < m) (hm : m ≤ 6) : lp_ (fun a : Int32 × Int32 => X4_chalk_b37 x w σ a.1 a.2) fu_ (0, 0) = some (if hs_ (fun i => m_A σ 53 (6 + i)) m w = true then 1 else 0) := by
  obtain ⟨k1, k2, k3⟩ := for_l (enc := fun (c : Int32) t => (c, nI t)) (fun a : Int32 × Int32 => X4_chalk_b37 x w σ a.1 a.2) (m - 1) (fun t c => if c = 0 then (if m_A σ 53 (6 + t) = w then 1 else 0) else 1) (fun c => c)
    (fun t c => (c = 0 ∨ c = 1) ∧ (c = 1 ↔ ∃ i, i < t ∧ m_A σ 53 (6 + i) = w))
    (fun t c ht ⟨p1, p2⟩ => by
      rcases p1 with rfl | rfl
      · rw [if_pos rfl]
        have hno : ∀ i, i < t → ¬ m_A σ 53 (6 + i) = w := fun i hi k => absurd (p2.mpr ⟨i, hi, k⟩) (by decide)
        by_cases q : m_A σ 53 (6 + t) = w
        · rw [if_pos q]
          exact ⟨Or.inr rfl, fun _ => ⟨t, by omega, q⟩, fun _ => rfl⟩
        · rw [if_neg q]
          refine ⟨Or.inl rfl, fun k => absurd k (by decide), ?_⟩
          rintro ⟨i, hi, k⟩
          by_cases e : i = t
          · rw [e] at k; exact absurd k q
          · exact absurd k (hno i (by omega))
      · rw [if_neg nn01]
        obtain ⟨i, hi, k⟩ := p2.mp rfl
        exact ⟨Or.inr rfl, fun _ => ⟨i, by omega, k⟩, fun _ => rfl⟩)
    (fun t c ht p12 => by
      clear p12
      show X4_chalk_b37 x w σ c (nI t) = _
      have h6 : 6 + nI t = nI (6 + t) := nI_add 6 t
      unfold X4_chalk_b37 X4_chalk_j64 X4_chalk_j69
      rw [h4, if_neg (nI_ge (show t < m by omega) (by omega)), h6, nI_1, nI_clamp (show 6 + t < 2 ^ 31 by omega), e_inN (show 6 + t < 12 by omega) (by omega)]
      by_cases q : c = 0
      · rw [if_pos q, if_pos q]
        by_cases q2 : m_A σ 53 (6 + t) = w
        · rw [if_pos q2, if_pos q2]
        · rw [if_neg q2, if_neg q2]
      · rw [if_neg q, if_neg q])
    (fun c _ => by
      show X4_chalk_b37 x w σ c (nI (m - 1 + 1)) = _
      unfold X4_chalk_b37
      rw [h4, if_pos (nI_le (by omega) (by omega))]) 0 ⟨Or.inl rfl, fun k => absurd k (by decide), fun ⟨i, hi, _⟩ => absurd hi (Nat.not_lt_zero _)⟩ (n := fu_) (by unfold fu_; omega)
  rw [show (lp_ (fun a : Int32 × Int32 => X4_chalk_b37 x w σ a.1 a.2) fu_ (0, 0)) = _ from k1]
  rw [show m - 1 + 1 = m by omega] at k2 k3 ⊢
  rcases k2 with q | q
  · rw [q, hs_f (fun i hi k => absurd (k3.mpr ⟨i, hi, k⟩) (by rw [q]; decide))]
    rfl
  · rw [q, if_pos (hs_t.mpr (k3.mp q))]
theorem op_chalk {a o : Nat} {g : GS} {σ : MS} (hr : Rel a o g σ) (x w : Int32) : OpT [(1, 1)] a o (X1_chalk a x w g) (X4_chalk x w σ) := by
  obtain ⟨ρ, sc, v, n, k, h, y, m, T, hp⟩ := hr
  have hp0 := hp.m (s0_eq (c := 0))
  have ha := hp.1.1.1
  have a1 := ha.1
  obtain ⟨n1, ⟨c1, c2, c3, c0, lm, ys, e1, e2, e3, e4⟩, ⟨n3, n4⟩, n5⟩ := hp0.2.1
  have hE := hp0.2.2.2.2.2.2.2.2.2.2.1
  have hlen : nI ys.length - 1 = nI m - 1 := by rw [e3]
  have hm1 : (nI m - 1).toInt = (m : Int) - 1 := by rw [i_sub (by rw [i_n (by omega), k_1]; omega) (by rw [i_n (by omega), k_1]; omega), i_n (by omega), k_1]
  have n3' : m_I σ 4 = nI m := n3
  unfold X1_chalk X4_chalk X1_aMark
  rw [e_wk a1, e_wk a1, n1, e_nn, e_wk c1, e1, e_nn, e_wk e2.K, J2_size_l e2, e_ob, hlen, X1_in_l, e_ob]
  cases hw : wi_ x 0 (nI m - 1) with
  | false =>
    have key : X4_chalk_j22 x w (s_I σ 0 0) = some (0, s_I (s_I σ 0 0) 0 1) := by
      unfold X4_chalk_j22 X4_chalk_j23
      rw [X4_right0 s0_0 (by decide), e_cb, if_pos rfl]
    refine OpT.ex (e := 1) (q := gz g) (r := 0) (g' := g) (σ' := s_I (s_I σ 0 0) 0 1) (dc := 1) (ds := 6) ?_ ?_ (hp.r (s0_eq.trans s0_eq)) (by omega) (by omega) (List.mem_cons_self)
    · show tc_ (tc_ (X1_found 0 g) _ _) _ _ = _
      rw [X1_found_f, e_tcr, e_b0, e_tcr, e_b0]
    · rw [n3']
      have hn : ¬ (0 ≤ x.toInt ∧ x.toInt ≤ (nI m - 1).toInt) := fun q => by
        have := (wi_t (x := x) (lo := 0) (hi := nI m - 1)).mpr ⟨by rw [k_0]; exact q.1, q.2⟩
        rw [hw] at this
        cases this
      by_cases h1 : x < 0
      · rw [if_pos h1, key]
      · rw [if_neg h1, if_pos, key]
        rw [i_lt, k_0] at h1
        rw [i_le, i_n (by omega)]
        omega
  | true =>
    obtain ⟨h1, h2⟩ := wi_t.mp hw
    rw [k_0] at h1
    rw [hm1] at h2
    obtain ⟨s, rfl, s2, -⟩ := i_nat h1
    have hsm : s < m := by omega
    obtain ⟨z0, hz0⟩ := get_ex (xs := ys) (k := s) (by omega)
    have h6 : 6 + nI s = nI (6 + s) := nI_add 6 s
    obtain ⟨b, hb⟩ : ∃ b, b = hs_ (fun i => m_A (s_I σ 0 0) 53 (6 + i)) m w := ⟨_, rfl⟩
    have hmod : X4_chalk_j23 (nI s) w 1 (s_I σ 0 0) = if b = true then X4_chalk_j92 (s_I σ 0 0) else if wi_ w 12 480 = true then (cb_ (X4_becomes (nI (6 + s)) w (s_I σ 0 0)) fun r19 σ20 => some (r19, σ20)) else X4_chalk_j92 (s_I σ 0 0) := by
      unfold X4_chalk_j23
      rw [X4_right1 s0_0, e_cb, if_neg nn01, chalk_lp _ _ n3 (by omega) n4, e_ob, ← hb, X4_within_l, e_ob, h6]
      cases b with
      | true => rw [if_pos rfl, if_pos rfl, if_neg nn01]
      | false =>
        rw [if_neg (show ¬ (false = true) by decide), if_neg (show ¬ (false = true) by decide), if_pos rfl]
        cases wi_ w 12 480 with
        | true => rw [if_pos rfl, if_pos rfl, if_neg nn01]
        | false => rw [if_neg (show ¬ (false = true) by decide), if_neg (show ¬ (false = true) by decide), if_pos rfl]
    -- refusals
    have hbad : ∀ g1 ρ1, RelP a o sc v n k h y m T g1 ρ1 (s_I σ 0 0) → ∃ g2, X1_chalk_j36 a g1 = some ((.inl (-1), g2), 0, 0) ∧ X4_chalk_j92 (s_I σ 0 0) = some (-1, s_A (s_I σ 0 0) 18 1 (m_A (s_I σ 0 0) 18 1 + 1)) ∧ Rel a o g2 (s_A (s_I σ 0 0) 18 1 (m_A (s_I σ 0 0) 18 1 + 1)) := by
      intro g1 ρ1 hq
      obtain ⟨rf, -, -, -, c4, c5, c6⟩ := hq.refu 1 (by omega) (-1)
      have c4' : X4_refuses 1 (-1) (s_I σ 0 0) = _ := c4
      have c5' : X1_refuse a 1 g1 = _ := c5
      refine ⟨_, ?_, ?_, ⟨_, _, _, _, _, _, _, _, _, c6⟩⟩
      · unfold X1_chalk_j36
        rw [e_wk hq.1.1.1.1, c5', e_cb]
      · unfold X4_chalk_j92
        rw [c4', e_cb]
    have hmm : (if nI s < 0 then X4_chalk_j22 (nI s) w (s_I σ 0 0) else if m_I (s_I σ 0 0) 4 ≤ nI s then X4_chalk_j22 (nI s) w (s_I σ 0 0) else X4_chalk_j23 (nI s) w 1 (s_I σ 0 0)) = X4_chalk_j23 (nI s) w 1 (s_I σ 0 0) := by
      rw [n3, if_neg (nI_pos (by omega)), if_neg (nI_ge (by omega) (by omega))]
    have hmm' : (if nI s < 0 then X4_chalk_j22 (nI s) w (s_I σ 0 0) else if m_I σ 4 ≤ nI s then X4_chalk_j22 (nI s) w (s_I σ 0 0) else X4_chalk_j23 (nI s) w 1 (s_I σ 0 0)) = X4_chalk_j23 (nI s) w 1 (s_I σ 0 0) := hmm
    rw [hmm', hmod, if_pos rfl, X1_found_t, e_tcl, e_b0, e_tcl, bp_0, X1_in_l, e_ob]
    cases hw2 : wi_ w 12 480 with
    | false =>
      obtain ⟨g2, d1, d2, d3⟩ := hbad g ρ hp0
      rw [if_neg (show ¬ (false = true) by decide), if_neg (show ¬ (false = true) by decide), if_pos rfl, d1, d2, ite_self]
      exact OpT.ok (dc := 0) (ds := 0) rfl rfl d3 (by omega) (by omega) rfl
    | true =>
      obtain ⟨w1, w2⟩ := wi_t.mp hw2
      rw [k_12] at w1
      rw [k_480] at w2
      rw [if_pos rfl, if_pos rfl, if_neg nn01, e_wk a1, n1, e_nn, e_wk c1, e1, e_nn]
      obtain ⟨z, g1, dc1, ds1, f1, f2, f3, f4, f5, f6, f7, f8, f9⟩ := J19_valueOf_l hE.2.1 w
      have hp1 : RelP a o sc v n k h y m T g1 (nr ρ g 0) (s_I σ 0 0) := hp0.to (W := no_) f2 nr_ag (fun _ _ k => k.elim) (fun i => f2.R ha.2.2.1 (fun k => k) i) (fun i _ => f2.I ha.2.2.1 (fun k => k) i) MEq.rf
      have e2' : LiP g1 (nr ρ g 0) 2 lm ys := e2.to f2 nr_ag (fun _ _ _ k => k)
      have e4' : IP g1 (nr ρ g 0) ys (fun i => m_A (s_I σ 0 0) 53 (6 + i)) := e4.to f2 nr_ag (fun _ _ _ k => k)
      rw [f1, e_ca, e_wk e2'.K, J2_contains_l e2' e4' f3 f6, e_ob, e3, ← hb]
      cases hbb : b with
      | true =>
        obtain ⟨g2, d1, d2, d3⟩ := hbad g1 _ hp1
        rw [if_pos rfl, if_pos rfl, if_neg nn01, d1, d2]
        exact OpT.ok (dc := dc1) (ds := ds1) (by rw [e_b0]) rfl d3 (by omega) (by omega) rfl
      | false =>
        rw [if_neg (show ¬ (false = true) by decide), if_neg (show ¬ (false = true) by decide), if_pos rfl]
        obtain ⟨g2, ρ2, dc, ds, l, xs, c, t1, t2, t3, t4, t5, t6, t7, t8, t9, t10, t11⟩ := keep_l hp1
        have ha1 := hp1.1.1.1
        have hE1 := hp1.2.2.2.2.2.2.2.2.2.2.1
        obtain ⟨σ', u1, u2, u3, u4, u5⟩ := becomes_l w t8 t9 (show 6 + s < 12 by omega)
        have ha3 : ¬ nr ρ g 0 a = 3 := by rw [ha1.2.1]; decide
        have hS2 : SetP g2 ρ2 2 y m (m_A (s_I σ 0 0) 53) := hp1.2.1.2.1.to t2 t3 (fun q _ k k2 => by rw [k2] at k; omega)
        have hEE : EnvP g2 ρ2 := hE1.to t2 t3 (fun q _ k k2 => by rw [k2] at k; omega)
        obtain ⟨z2, g3, dc3, ds3, v1, v2, v3, v4, v5, v6, v7, v8, v9⟩ := J19_valueOf_l hEE.2.1 w
        have hS3 : SetP g3 (nr ρ2 g2 0) 2 y m (m_A (s_I σ 0 0) 53) := hS2.to v2 nr_ag (fun _ _ _ k => k)
        obtain ⟨p1, p2, p3, p4, lm', ys', p5, ⟨ee, p6⟩, p7, p8⟩ := hS3
        obtain ⟨z', hz'⟩ := get_ex (xs := ys') (k := s) (by omega)
        obtain ⟨q1, q2, q3, q4⟩ := p8 s z' hz'
        obtain ⟨g4, r1, r2, r3, r4, r5, r6⟩ := J2_set_l p6 hz' v5 (by rw [v3]; rfl)
        have hrole : ∀ q, nr ρ2 g2 0 q = 0 → ¬ q = ee := fun q k k2 => by rw [k2, r5] at k; cases k
        have hyee : ¬ y = ee := fun k => by rw [k, r4] at p1; cases p1
        have q1' : gK g4 z' % 1000 = 14 := by rw [r3.K q3, q1]
        have q4' : gI g4 z' 0 = m_A (s_I σ 0 0) 53 (6 + s) := by rw [r3.I q3 (hrole _ q2), q4]
        have hrow' : m_A σ' 53 = fun i => if i = 6 + s then w else m_A (s_I σ 0 0) 53 i := funext u4
        have hSf : SetP g4 (nr ρ2 g2 0) 2 y m (m_A σ' 53) := by
          rw [hrow']
          refine ⟨by rw [r3.K p3, p1], p2, r3.lt p3, ?_, lm', ys'.set s z2, by rw [r3.R p3 hyee, p5], ⟨ee, r2⟩, by rw [List.length_set, p7], fun i u hu => ?_⟩
          · obtain ⟨o0, o1, o2, o3, o4, o5⟩ := p4
            have hne : ∀ j, j < 6 → ¬ j = 6 + s := fun j hj => by omega
            dsimp only
            rw [if_neg (hne 0 (by omega)), if_neg (hne 1 (by omega)), if_neg (hne 2 (by omega)), if_neg (hne 3 (by omega)), if_neg (hne 5 (by omega)), if_neg (hne 4 (by omega))]
            exact ⟨by rw [r3.I p3 hyee, o0], by rw [r3.I p3 hyee, o1], by rw [r3.I p3 hyee, o2], by rw [r3.I p3 hyee, o3], by rw [r3.I p3 hyee, o4], by rw [r3.I p3 hyee, o5]⟩
          · dsimp only
            rw [List.getElem?_set] at hu
            by_cases q : s = i
            · rw [if_pos q, if_pos (by omega)] at hu
              obtain rfl : z2 = u := Option.some.inj hu
              rw [if_pos (by omega)]
              exact ⟨by rw [r3.K v5, v3], v4, r3.lt v5, by rw [r3.I v5 (hrole _ v4), v6]⟩
            · rw [if_neg q] at hu
              obtain ⟨o1, o2, o3, o4⟩ := p8 i u hu
              rw [if_neg (by omega)]
              exact ⟨by rw [r3.K o3, o1], o2, r3.lt o3, by rw [r3.I o3 (hrole _ o2), o4]⟩
        have F24 : Fr (fun q => ρ2 q = 2) g2 g4 := (v2.mono (fun _ _ k => k.elim)).trans r3 (fun q hq k => by rw [k] at hq ⊢; rw [← nr_lt hq (ρ := ρ2) (r := 0), r5])
        have hrow'' : RowOK (m_A σ' 53) m h := by rw [hrow']; exact n5.put (by omega)
        have hM : Mf [0, 56] [53, 55] (s_I σ 0 0) σ' := (Mf.rf (LI := [0, 56]) (LA := [53, 55])).trans u2 (by decide) (by decide)
        have hcl : xs.length ≤ 40 := by rw [t10]; split <;> omega
        have hrel := rel_act hp1 t2 t3 t4 t5 F24 nr_ag hSf hrow'' hM (by rw [u3, t10]) hcl (t11 (6 + s) w _ _ (by omega) u4 u5)
        have ha2 : gK g2 a = 1 := by rw [t2.K ha1.2.2.1, ha1.1]
        have hr2 : gR g2 a 1 = y + 1 := by rw [t2.R ha1.2.2.1 ha3, hp1.2.1.1]
        have hr6 : gR g2 y 6 = lm' + 1 := by rw [← v2.R hS2.2.2.1 (fun k => k), p5]
        have hcost : ds3 + (ds + ds1) ≤ 80000 := by omega
        have hth : m_I σ' 0 = 0 := by rw [u2.I (by decide)]; rfl
        refine OpT.ok (r := m_A (s_I σ 0 0) 53 (6 + s)) (g' := g4) (σ' := σ') (dc := dc3 + dc + dc1) (ds := ds3 + ds + ds1) ?_ ?_ ⟨_, _, _, _, _, _, _, _, _, hrel⟩ (by omega) (by omega) hth
        · rw [e_wk ha1.1, t1, e_ca, e_wk ha2, hr2, e_nn, e_wk hS2.1, hr6, e_nn, v1, e_ca, e_wk p6.1, r1, e_cb, e_rk q1', J19_intValue_l q1', e_ob, q4', e_b0, e_bp, e_bp]
        · rw [u1, e_cb]
end
section
/-! LAWS: undo, image, restore (own work) -/
set_option maxRecDepth 100000
theorem RowOK.congr {S S' : Nat → Int32} {m h : Nat} (hS : RowOK S m h) (e : ∀ i, i < 6 + m → S' i = S i) : RowOK S' m h := by
  obtain ⟨r0, r1, r2, r3, r4, r5, r6⟩ := hS
  refine ⟨?_, ?_, ?_, ?_, ?_, ?_, fun i hi => ?_⟩
  · rw [e 0 (by omega)]; exact r0
  · rw [e 1 (by omega)]; exact r1
  · rw [e 2 (by omega)]; exact r2
  · rw [e 3 (by omega)]; exact r3
  · rw [e 4 (by omega)]; exact r4
  · rw [e 5 (by omega)]; exact r5
  · rw [e (6 + i) (by omega)]; exact r6 i hi
theorem AcR.congr {g : GS} {ρ : Nat → Nat} {xs : List Nat} {m h : Nat} {row A row' A' : Nat → Int32} (hc : AcR g ρ xs m h row A) (hr : ∀ i, i < 6 + m → row' i = row i) (hA : ∀ i, i < 2 * xs.length → A' i = A i) : AcR g ρ xs m h row' A' := by
  obtain ⟨S, s1, s2⟩ := hc
  refine ⟨S, fun i hi => by rw [s1 i hi, hr i hi], fun j y hy => ?_⟩
  have hj := (List.getElem?_eq_some_iff.mp hy).1
  obtain ⟨b1, b2, q, b3, b4, b5⟩ := s2 j y hy
  exact ⟨b1, b2, q, b3, by rw [hA _ (by omega), b4], fun i hi => by rw [hA _ (by omega)]; exact b5 i hi⟩
theorem AcR.pop {g : GS} {ρ : Nat → Nat} {xs : List Nat} {m h d : Nat} {row A : Nat → Int32} (hc : AcR g ρ xs m h row A) (hl : xs.length = d + 1) : ∃ y S1 q, xs[d]? = some y ∧ SetP g ρ 0 y m S1 ∧ RowOK S1 m h ∧ q < 6 + m ∧ A (2 * d) = nI q ∧ (∀ i, i < 6 + m → S1 i = if i = q then A (2 * d + 1) else row i) ∧ ∀ row' : Nat → Int32, (∀ i, i < 6 + m → row' i = S1 i) → AcR g ρ (xs.eraseIdx d) m h row' A := by
  obtain ⟨S, s1, s2⟩ := hc
  obtain ⟨y, hy⟩ := get_ex (xs := xs) (k := d) (by omega)
  obtain ⟨b1, b2, q, b3, b4, b5⟩ := s2 d y hy
  refine ⟨y, S d, q, hy, b1, b2, b3, b4, fun i hi => by rw [b5 i hi, ← s1 i hi, hl], fun row' hr => ⟨S, fun i hi => ?_, fun j u hu => ?_⟩⟩
  · rw [List.length_eraseIdx_of_lt (by omega), hl, Nat.add_sub_cancel, hr i hi]
  · have hj := (List.getElem?_eq_some_iff.mp hu).1
    rw [List.length_eraseIdx_of_lt (by omega)] at hj
    rw [List.getElem?_eraseIdx, if_pos (by omega)] at hu
    exact s2 j u hu
theorem op_undo {a o : Nat} {g : GS} {σ : MS} (hr : Rel a o g σ) : OpI a o (X1_undo a g) (X4_undo σ) := by
  obtain ⟨ρ, sc, v, n, k, h, x, m, T, hp⟩ := hr
  have hp0 := hp.m (s0_eq (c := 0))
  have ha := hp.1.1.1
  obtain ⟨n1, n2, ⟨n3, n3'⟩, n4⟩ := hp.2.1
  obtain ⟨l, ys, c1, ⟨e, he⟩, c3, c4, c5⟩ := hp.2.2.2.2.2.1
  have hE := hp.2.2.2.2.2.2.2.2.2.2.1
  unfold X1_undo X4_undo
  rw [e_wk ha.1, c1, e_nn, e_wk he.1, J2_isEmpty_l ⟨e, he⟩, e_ob, c3]
  by_cases h0 : ys.length = 0
  · rw [if_pos h0, if_neg nn01, if_pos (by rw [h0]; rfl)]
    exact ⟨-1, g, 0, 0, _, rfl, rfl, hp0.r MEq.rf, by omega, by omega⟩
  · obtain ⟨d, hd⟩ : ∃ d, ys.length = d + 1 := ⟨ys.length - 1, by omega⟩
    obtain ⟨y, S1, q, p1, p2, p3, p4, p5, p6, p7⟩ := c5.pop hd
    rw [if_neg h0, if_pos rfl, if_neg (nI_ne0 (by omega) (by omega)), e_nn, e_nn, e_wk he.1, J2_size_l ⟨e, he⟩, e_ob, hd, nI_p, e_wk he.1]
    obtain ⟨g1, f1, f2, f3, f4, f5, f6⟩ := J2_remove_l he p1
    have F1 : Fr (fun q => ρ q = 3) g g1 := f3.mono (fun q _ k => by
      rcases k with k | k
      · rw [k]; exact he.2.1
      · rw [k]; exact f5)
    have h03 : ∀ q, ρ q = 0 ∨ ρ q = 0 → ¬ ρ q = 3 := fun q k k2 => by rw [k2] at k; omega
    have p2' : SetP g1 ρ 0 y m S1 := p2.to F1 Ag.rf (fun q _ k => h03 q k)
    obtain ⟨g2, dc, ds, a1, a2, a3, a4, a5, a6⟩ := X3_copy_l (hE.1.to F1 Ag.rf) p2' n3' 2
    obtain ⟨g3, hg3⟩ : ∃ g3, g3 = pR g2 a 1 (gz g1 + 1) := ⟨_, rfl⟩
    have F3 : Fr (fun q => q = a) g2 g3 := by rw [hg3]; exact Fr.pR rfl
    have F : Fr (fun q => ρ q = 3 ∨ q = a) g g3 := ((F1.mono (fun _ _ k => Or.inl k)).trans a3 (fun _ _ k => k.elim)).trans F3 (fun _ _ k => Or.inr k)
    have hA : Ag g ρ (nr ρ g1 2) := Ag.rf.trans nr_ag F1.z
    have ha3 : ¬ ρ a = 3 := by rw [ha.2.1]; decide
    have la1 : a < gz g1 := F1.lt ha.2.2.1
    have hR2 : ∀ i, gR g2 a i = gR g a i := fun i => by rw [a3.R la1 (fun k => k), F1.R ha.2.2.1 ha3]
    have hR : ∀ i, i ∉ [1] → gR g3 a i = gR g a i := fun i hi => by rw [hg3, R_pR, if_neg (by rintro ⟨-, k⟩; exact hi (by simp [k])), hR2]
    have hI : ∀ i, i ∉ [] → gI g3 a i = gI g a i := fun i _ => by rw [hg3, I_pR, a3.I la1 (fun k => k), F1.I ha.2.2.1 ha3]
    have e2 : (2 : Int32) * nI d = nI (2 * d) := (Int32.ofNat_mul 2 d).symm
    obtain ⟨σ', hσ'⟩ : ∃ σ', σ' = s_A (s_I (s_I σ 0 0) 56 (nI d)) 53 q (m_A σ 55 (2 * d + 1)) := ⟨_, rfl⟩
    have hM : Mf [0, 56] [53] σ σ' := by
      rw [hσ']
      exact ((Mf.sI (LI := [0, 56]) (LA := [53]) (by decide)).trans (Mf.sI (LI := [56]) (LA := []) (by decide)) (by decide) (fun _ k => by cases k)).trans (Mf.sA (LI := []) (LA := [53]) (by decide)) (fun _ k => by cases k) (by decide)
    have hrow : ∀ i, i < 6 + m → m_A σ' 53 i = S1 i := fun i hi => by
      rw [p6 i hi, hσ', rA_sA]
      by_cases k : i = q
      · rw [if_pos ⟨rfl, k⟩, if_pos k]
      · rw [if_neg (by rintro ⟨-, k2⟩; exact k k2), if_neg k]; rfl
    obtain ⟨B, N, Z, Ta, Re, Ac, Fi, Bo, Ke, Im, En, Ou⟩ := hp.all (LR := [1]) (LJ := []) (D := [3, 1]) F hA (fun r hr q _ k e => by
      rcases e with e | e
      · rw [k] at e; exact hr (by simp [e])
      · rw [e, ha.2.1] at k; exact hr (by simp [k])) hR hI hM (by decide)
    have hx2 : ∀ q, nr ρ g1 2 q = 2 ∨ nr ρ g1 2 q = 0 → ¬ q = a := fun q k k2 => by rw [k2, nr_lt la1, ha.2.1] at k; omega
    have hSet : SetP g3 (nr ρ g1 2) 2 (gz g1) m (m_A σ' 53) := (a2.to F3 Ag.rf (fun q _ k => hx2 q k)).congr hrow
    have F13 : Fr (fun q => q = a) g1 g3 := (a3.mono (fun _ _ k => k.elim)).trans F3 (fun _ _ k => k)
    have hl3 : LiPe g3 (nr ρ g1 2) 3 l e (ys.eraseIdx d) := f2.to F13 nr_ag (fun q _ k k2 => by rw [k2, ha.2.1] at k; omega)
    have hlen : (ys.eraseIdx d).length = d := by rw [List.length_eraseIdx_of_lt (by omega), hd, Nat.add_sub_cancel]
    have hAcR : AcR g3 (nr ρ g1 2) (ys.eraseIdx d) m h (m_A σ' 53) (m_A σ' 55) := by
      rw [hM.Af (j := 55) (by decide)]
      exact (p7 _ hrow).to F hA (fun q _ k k2 => by
        rcases k2 with k2 | k2
        · exact h03 q (Or.inl k) k2
        · rw [k2, ha.2.1] at k; cases k)
    have k2a : gK g2 a = 1 := by rw [a3.K la1, F1.K ha.2.2.1, ha.1]
    have h7 : gR g3 a 7 = l + 1 := by rw [hR 7 (by decide), c1]
    have hd40 : d ≤ 40 := by omega
    have hc56 : m_I σ' 56 = nI (ys.eraseIdx d).length := by rw [hlen, hσ']; rfl
    refine ⟨nI d, g3, dc, ds, σ', ?_, ?_, ⟨_, _, _, _, _, _, _, _, _, B (by decide), ⟨by rw [hg3, R_pR, if_pos ⟨rfl, rfl⟩], hSet, ⟨by rw [hM.I (by decide)]; exact n3, n3'⟩, p3.congr hrow⟩, Z (by decide), Ta (by decide), Re (by decide), ⟨l, _, h7, ⟨e, hl3⟩, hc56, by rw [hlen]; exact hd40, hAcR⟩, Fi (by decide), Bo (by decide), Ke (by decide), Im (by decide), En, Ou⟩, by omega, by omega⟩
    · rw [f1, e_cb, e_wk p2'.1, a1, e_ca, e_wk k2a, ← hg3, h7, e_nn, e_wk hl3.1, J2_size_l ⟨e, hl3⟩, e_ob, hlen, e_b0]
    · rw [e2, nI_1, e_inN (by omega) (by omega), e_inN (by omega) (by omega), nI_clamp (by omega), p5, e_inN (by omega) (by omega), nI_clamp (by omega), nI_clamp (by omega), hσ']
end
section
/-! LAWS: image, restore (own work) -/
set_option maxRecDepth 100000
theorem copies_l {σ : MS} {a1 a2 L : Nat} (h1 : m_ok a1 = true) (h2 : m_ok a2 = true) (l1 : m_len a1 = L) (l2 : m_len a2 = L) (hL0 : 0 < L) (hL : L ≤ 5000) (hne : a1 ≠ a2) : ∃ σ', X4_copies a1 a2 σ = some σ' ∧ Mf [] [a2] σ σ' ∧ ∀ i, m_A σ' a2 i = if i < L then m_A σ a1 i else m_A σ a2 i := by
  obtain ⟨k1, k2, k3⟩ := for_l (enc := fun (c : MS) t => (nI t, c)) (fun a : Int32 × MS => X4_copies_b2 a1 a2 a.1 a.2) (L - 1) (fun t c => s_A c a2 t (m_A c a1 t)) (fun c => c)
    (fun t c => Mf [] [a2] σ c ∧ ∀ i, m_A c a2 i = if i < t then m_A σ a1 i else m_A σ a2 i)
    (fun t c ht ⟨p1, p2⟩ => ⟨p1.trans (Mf.sA (LI := []) (LA := [a2]) (by simp)) (fun _ k => k) (fun _ k => k), fun i => by
      rw [rA_sA]
      by_cases q : i = t
      · rw [if_pos ⟨rfl, q⟩, if_pos (by omega), p1.A (by simpa using hne), q]
      · rw [if_neg (by rintro ⟨-, k⟩; exact q k), p2]
        by_cases q2 : i < t
        · rw [if_pos q2, if_pos (by omega)]
        · rw [if_neg q2, if_neg (by omega)]⟩)
    (fun t c ht _ => by
      show X4_copies_b2 a1 a2 (nI t) c = _
      unfold X4_copies_b2
      rw [h1, h2, e_gd, e_gd, e_gd, l1, l2, show Int32.ofNat L = nI L from rfl, if_neg (nI_ge (show t < L by omega) (by omega)), e_inN (show t < L by omega) (by omega), e_inN (show t < L by omega) (by omega), nI_1, nI_clamp (by omega)])
    (fun c _ => by
      show X4_copies_b2 a1 a2 (nI (L - 1 + 1)) c = _
      unfold X4_copies_b2
      rw [h1, e_gd, l1, show Int32.ofNat L = nI L from rfl, if_pos (nI_le (by omega) (by omega))]) σ ⟨Mf.rf, fun i => by rw [if_neg (by omega)]⟩ (n := fu_) (by unfold fu_; omega)
  rw [show L - 1 + 1 = L by omega] at k1 k2 k3
  refine ⟨_, ?_, k2, k3⟩
  unfold X4_copies
  rw [show (lp_ (fun a : Int32 × MS => X4_copies_b2 a1 a2 a.1 a.2) fu_ (0, σ)) = _ from k1, e_ob]
/-- a list behind a field of the object is copied to another of its fields -/
theorem dup_l {g : GS} {ρ : Nat → Nat} {a src dst rs rd l : Nat} {xs : List Nat} (hE : EnE g ρ) (hrd : rd ≠ 1) (hk : gK g a = 1) (hra : ρ a = 1) (hz : a < gz g) (hs : gR g a src = l + 1) (hl : LiP g ρ rs l xs) :
    ∃ g1 g2 g', nw_ g 12 3 = g1 ∧ gK g1 a = 1 ∧ gR g1 a src = l + 1 ∧ J2_init_2 (gz g) l g1 = some (((), g2), 1, xs.length) ∧ gK g2 a = 1 ∧ pR g2 a dst (gz g + 1) = g' ∧ Fr (fun q => q = a) g g' ∧ (∀ i, gR g' a i = if i = dst then gz g + 1 else gR g a i) ∧ (∀ i, gI g' a i = gI g a i) ∧ LiP g' (nr ρ g rd) rd (gz g) xs ∧ gz g < gz g' ∧ gK g' a = 1 := by
  obtain ⟨e, he⟩ := hl
  have F0 : Fr no_ g (nw_ g 12 3) := Fr.nw
  have hza : ¬ a = gz g := by omega
  have hle : ¬ gz g = l := by have := he.2.2.1; omega
  obtain ⟨g2, e', b1, b2, b3, b4⟩ := J2_init2_l (r := rd) (hE.to F0 (nr_ag (r := rd))) (by rw [K_nw, if_pos rfl]) (nr_ge (Nat.le_refl _)) (by rw [z_nw]; exact Nat.lt_succ_self _) (he.to F0 (nr_ag (r := rd)) (fun _ _ _ k => k)) hle
  have F1 : Fr no_ g g2 := F0.trans b3 (fun q hq k => by omega)
  have k1 : gK (nw_ g 12 3) a = 1 := by rw [K_nw, if_neg hza, hk]
  have k2 : gK g2 a = 1 := by rw [F1.K hz, hk]
  rw [nr_nr (by rw [z_nw]; omega)] at b2
  refine ⟨_, g2, _, rfl, k1, by rw [R_nw, if_neg hza, hs], b1, k2, rfl, ?_, fun i => ?_, fun i => ?_, ⟨e', ?_⟩, ?_, k2⟩
  · exact (F1.mono (fun _ _ k => k.elim)).trans (Fr.pR (W := fun q => q = a) rfl) (fun _ _ k => k)
  · rw [R_pR]
    by_cases q : i = dst
    · rw [if_pos ⟨rfl, q⟩, if_pos q]
    · rw [if_neg (by rintro ⟨-, k⟩; exact q k), if_neg q, F1.R hz (fun k => k)]
  · rw [I_pR, F1.I hz (fun k => k)]
  · refine b2.to (Fr.pR (W := fun q => q = a) rfl) Ag.rf (fun q _ k k2 => ?_)
    rw [k2, nr_lt hz, hra] at k
    omega
  · show gz g < gz g2
    rw [b4, z_nw]; omega
theorem op_image {a o : Nat} {g : GS} {σ : MS} (hr : Rel a o g σ) : OpV a o (X1_image a g) (X4_image σ) := by
  obtain ⟨ρ, sc, v, n, k, h, x, m, T, hp⟩ := hr
  have ha := hp.1.1.1
  obtain ⟨n1, n2, ⟨n3, n3'⟩, n4⟩ := hp.2.1
  obtain ⟨l7, xs7, c1, c2, c3, c4, c5⟩ := hp.2.2.2.2.2.1
  obtain ⟨nf, ⟨l8, xs8, d1, d2, d3, d4⟩, d5, d6, d7⟩ := hp.2.2.2.2.2.2.1
  obtain ⟨l9, xs9, e1, e2, e3, e4, e5, e6⟩ := hp.2.2.2.2.2.2.2.1
  have hE := hp.2.2.2.2.2.2.2.2.2.2.1
  -- the component
  obtain ⟨g1, dc, ds, a1, a2, a3, a4, a5, a6⟩ := X3_copy_l hE.1 n2 n3' 0
  obtain ⟨g2, hg2⟩ : ∃ g2, g2 = pR g1 a 11 (gz g + 1) := ⟨_, rfl⟩
  have F12 : Fr (fun q => q = a) g1 g2 := by rw [hg2]; exact Fr.pR rfl
  have F2 : Fr (fun q => q = a) g g2 := (a3.mono (fun _ _ k => k.elim)).trans F12 (fun _ _ k => k)
  have hA : Ag g ρ (nr ρ g 0) := nr_ag
  have hna : ∀ r q, r ≠ 1 → ρ q = r ∨ ρ q = 0 → ¬ q = a := fun r q hr k k2 => by rw [k2, ha.2.1] at k; omega
  have hna' : ∀ q, nr ρ g 0 q = 0 ∨ nr ρ g 0 q = 0 → ¬ q = a := fun q k k2 => by rw [k2, nr_lt ha.2.2.1, ha.2.1] at k; omega
  have kg1 : gK g1 a = 1 := by rw [a3.K ha.2.2.1, ha.1]
  have k2 : gK g2 a = 1 := by rw [F2.K ha.2.2.1, ha.1]
  have hra : nr ρ g 0 a = 1 := by rw [nr_lt ha.2.2.1, ha.2.1]
  have R2 : ∀ i, gR g2 a i = if i = 11 then gz g + 1 else gR g a i := fun i => by
    rw [hg2, R_pR]
    by_cases q : i = 11
    · rw [if_pos ⟨rfl, q⟩, if_pos q]
    · rw [if_neg (by rintro ⟨-, k⟩; exact q k), if_neg q, a3.R ha.2.2.1 (fun k => k)]
  have I2 : ∀ i, gI g2 a i = gI g a i := fun i => by rw [hg2, I_pR, a3.I ha.2.2.1 (fun k => k)]
  obtain ⟨h1, h2, g3, o1, o2, o3, o4, o5, o6, F3, R3, I3, L3, z3, k3⟩ := dup_l (src := 7) (dst := 12) (rd := 0) (hE.1.to F2 hA) (by decide) k2 hra (F2.lt ha.2.2.1) (by rw [R2, if_neg (by decide), c1]) (c2.to F2 hA (fun q _ k => hna 3 q (by decide) k))
  rw [nr_nr F2.z] at L3
  have F03 : Fr (fun q => q = a) g g3 := F2.trans F3 (fun _ _ k => k)
  obtain ⟨h3, h4, g4, p1, p2, p3, p4, p5, p6, F4, R4, I4, L4, z4, k4⟩ := dup_l (src := 8) (dst := 13) (rd := 0) (hE.1.to F03 hA) (by decide) k3 hra (F03.lt ha.2.2.1) (by rw [R3, if_neg (by decide), R2, if_neg (by decide), d1]) (d2.to F03 hA (fun q _ k => hna 4 q (by decide) k))
  rw [nr_nr F03.z] at L4
  have F04 : Fr (fun q => q = a) g g4 := F03.trans F4 (fun _ _ k => k)
  obtain ⟨h5, h6, g5, q1, q2, q3, q4, q5, q6, F5, R5, I5, L5, z5, k5⟩ := dup_l (src := 9) (dst := 14) (rd := 0) (hE.1.to F04 hA) (by decide) k4 hra (F04.lt ha.2.2.1) (by rw [R4, if_neg (by decide), R3, if_neg (by decide), R2, if_neg (by decide), e1]) (e2.to F04 hA (fun q _ k => hna 5 q (by decide) k))
  rw [nr_nr F04.z] at L5
  have F05 : Fr (fun q => q = a) g g5 := F04.trans F5 (fun _ _ k => k)
  have F15 : Fr (fun q => q = a) g1 g5 := ((F12.trans F3 (fun _ _ k => k)).trans F4 (fun _ _ k => k)).trans F5 (fun _ _ k => k)
  have F35 : Fr (fun q => q = a) g3 g5 := F4.trans F5 (fun _ _ k => k)
  have hR : ∀ i, gR g5 a i = if i = 14 then gz g4 + 1 else if i = 13 then gz g3 + 1 else if i = 12 then gz g2 + 1 else if i = 11 then gz g + 1 else gR g a i := fun i => by rw [R5, R4, R3, R2]
  have hI : ∀ i, i ∉ [] → gI g5 a i = gI g a i := fun i _ => by rw [I5, I4, I3, I2]
  have hR' : ∀ i, i ∉ [11, 12, 13, 14] → gR g5 a i = gR g a i := fun i hi => by
    rw [hR, if_neg (fun k => hi (by simp [k])), if_neg (fun k => hi (by simp [k])), if_neg (fun k => hi (by simp [k])), if_neg (fun k => hi (by simp [k]))]
  -- the model
  obtain ⟨σ1, hσ1⟩ : ∃ σ1, σ1 = s_I (s_I (s_I (s_I (s_I σ 0 0) 78 1) 79 (m_I σ 56)) 80 (m_I σ 74)) 81 (m_I σ 76) := ⟨_, rfl⟩
  have hM1 : Mf [0, 78, 79, 80, 81] [82, 83, 84, 85] σ σ1 := by
    rw [hσ1]
    exact ((((Mf.sI (LI := [0, 78, 79, 80, 81]) (LA := [82, 83, 84, 85]) (by decide)).trans (Mf.sI (LI := [78]) (LA := []) (by decide)) (by decide) (fun _ k => by cases k)).trans (Mf.sI (LI := [79]) (LA := []) (by decide)) (by decide) (fun _ k => by cases k)).trans (Mf.sI (LI := [80]) (LA := []) (by decide)) (by decide) (fun _ k => by cases k)).trans (Mf.sI (LI := [81]) (LA := []) (by decide)) (by decide) (fun _ k => by cases k)
  obtain ⟨σ2, r1, r2, r3⟩ := copies_l (σ := σ1) (a1 := 53) (a2 := 82) (L := 12) rfl rfl rfl rfl (by omega) (by omega) (by decide)
  obtain ⟨σ3, s1, s2, s3⟩ := copies_l (σ := σ2) (a1 := 55) (a2 := 83) (L := 80) rfl rfl rfl rfl (by omega) (by omega) (by decide)
  obtain ⟨σ4, t1, t2, t3⟩ := copies_l (σ := σ3) (a1 := 75) (a2 := 84) (L := 16) rfl rfl rfl rfl (by omega) (by omega) (by decide)
  obtain ⟨σ5, u1, u2, u3⟩ := copies_l (σ := σ4) (a1 := 77) (a2 := 85) (L := 16) rfl rfl rfl rfl (by omega) (by omega) (by decide)
  have hM : Mf [0, 78, 79, 80, 81] [82, 83, 84, 85] σ σ5 := (((hM1.trans r2 (fun _ k => by cases k) (by decide)).trans s2 (fun _ k => by cases k) (by decide)).trans t2 (fun _ k => by cases k) (by decide)).trans u2 (fun _ k => by cases k) (by decide)
  have hi : ∀ j, m_I σ5 j = m_I σ1 j := fun j => by rw [u2.I (by simp), t2.I (by simp), s2.I (by simp), r2.I (by simp)]
  have v82 : ∀ i, i < 12 → m_A σ5 82 i = m_A σ 53 i := fun i hi => by rw [u2.A (by decide), t2.A (by decide), s2.A (by decide), r3, if_pos hi, hM1.A (by decide)]
  have v83 : ∀ i, i < 80 → m_A σ5 83 i = m_A σ 55 i := fun i hi => by rw [u2.A (by decide), t2.A (by decide), s3, if_pos hi, r2.A (by decide), hM1.A (by decide)]
  have v84 : ∀ i, i < 16 → m_A σ5 84 i = m_A σ 75 i := fun i hi => by rw [u2.A (by decide), t3, if_pos hi, s2.A (by decide), r2.A (by decide), hM1.A (by decide)]
  have v85 : ∀ i, i < 16 → m_A σ5 85 i = m_A σ 77 i := fun i hi => by rw [u3, if_pos hi, t2.A (by decide), s2.A (by decide), r2.A (by decide), hM1.A (by decide)]
  have w78 : m_I σ5 78 = 1 := by rw [hi, hσ1]; rfl
  have w79 : m_I σ5 79 = nI xs7.length := by rw [hi, ← c3, hσ1]; rfl
  have w80 : m_I σ5 80 = nI nf := by rw [hi, ← d5, hσ1]; rfl
  have w81 : m_I σ5 81 = nI xs9.length := by rw [hi, ← e3, hσ1]; rfl
  obtain ⟨B, N, Z, Ta, Re, Ac, Fi, Bo, Ke, Im, En, Ou⟩ := hp.all (LR := [11, 12, 13, 14]) (LJ := []) (D := [1]) F05 hA (fun r hr q _ k e => by
    rw [e, ha.2.1] at k; exact hr (by simp [k])) hR' hI hM (by decide)
  have m12 : ∀ i, i < 6 + m → i < 12 := fun i hi => by omega
  have hSet : SetP g5 (nr ρ g 0) 0 (gz g) m (m_A σ5 82) := (a2.to F15 Ag.rf (fun q _ k => hna' q k)).congr (fun i hi => v82 i (m12 i hi))
  have hAc5 : AcR g5 (nr ρ g 0) xs7 m h (m_A σ5 82) (m_A σ5 83) := (c5.to F05 hA (fun q _ k => hna 0 q (by decide) (Or.inl k))).congr (fun i hi => v82 i (m12 i hi)) (fun i hi => v83 i (by omega))
  have hFi5 : FilP g5 (nr ρ g 0) 0 a 13 T (m_A σ5 84) (m_I σ5 80) := by
    refine ⟨nf, ⟨gz g3, xs8, by rw [hR, if_neg (by decide), if_pos rfl], L4.to F5 Ag.rf (fun q _ k => hna' q k), d3, (d4.to F05 hA (fun q _ k => hna 0 q (by decide) (Or.inl k))).congr (fun i hi => v84 _ (by omega)) (fun i hi => v84 _ (by omega))⟩, w80, d6, fun j hj => ?_⟩
    rw [v84 _ (by omega), v84 _ (by omega)]
    exact d7 j hj
  have hBo5 : BooP g5 (nr ρ g 0) 0 a 14 (m_A σ5 85) (m_I σ5 81) := ⟨gz g4, xs9, by rw [hR, if_pos rfl], L5, w81, e4, (e5.to F05 hA (fun q _ k => hna 0 q (by decide) (Or.inl k))).congr (fun i hi => v85 _ (by omega)), fun i hi => by rw [v85 _ (by omega)]; exact e6 i hi⟩
  have hcost : xs9.length + (3 + (xs8.length + (3 + (xs7.length + (3 + ds))))) ≤ 80000 := by omega
  have hdc : 1 + (1 + (1 + (1 + (1 + (1 + dc))))) ≤ 18000 := by omega
  refine ⟨g5, 0 + 1 + 1 + 1 + 1 + 1 + 1 + dc, 0 + xs9.length + 3 + xs8.length + 3 + xs7.length + 3 + ds, σ5, ?_, ?_, ⟨_, _, _, _, _, _, _, _, _, B (by decide), N (by decide), Z (by decide), Ta (by decide), Re (by decide), Ac (by decide), Fi (by decide), Bo (by decide), Ke (by decide), Or.inr ⟨w78, ⟨gz g, ?_, hSet⟩, n4.congr (fun i hi => v82 i (m12 i hi)), ⟨gz g2, xs7, ?_, L3.to F35 Ag.rf (fun q _ k => hna' q k), w79, c4, hAc5⟩, hFi5, hBo5⟩, En, Ou⟩, by omega, by omega⟩
  · unfold X1_image
    rw [e_wk ha.1, n1, e_nn, e_wk n2.1, a1, e_ca, e_wk kg1, ← hg2, e_al, o1, e_wk o2, o3, e_nn, o4, e_ca, e_wk o5, o6, e_al, p1, e_wk p2, p3, e_nn, p4, e_ca, e_wk p5, p6, e_al, q1, e_wk q2, q3, e_nn, q4, e_ca, e_wk q5, q6, e_bp, e_bp, e_bp, e_bp, e_bp, e_bp, e_bp]
  · unfold X4_image
    rw [← hσ1, r1, e_ob, s1, e_ob, t1, e_ob, u1, e_ob]
  · rw [hR, if_neg (by decide), if_neg (by decide), if_neg (by decide), if_pos rfl]
  · rw [hR, if_neg (by decide), if_neg (by decide), if_pos rfl]
end
section
/-! LAWS: restore (own work) -/
set_option maxRecDepth 100000
theorem op_restore {a o : Nat} {g : GS} {σ : MS} (hr : Rel a o g σ) : OpI a o (X1_restore a g) (X4_restore σ) := by
  obtain ⟨ρ, sc, v, n, k, h, x, m, T, hp⟩ := hr
  have hp0 := hp.m (s0_eq (c := 0))
  have ha := hp.1.1.1
  have hE := hp.2.2.2.2.2.2.2.2.2.2.1
  obtain ⟨n3, n3'⟩ := hp.2.1.2.2.1
  unfold X1_restore X4_restore
  rw [e_wk ha.1]
  rcases hp.2.2.2.2.2.2.2.2.2.1 with ⟨b1, b2⟩ | ⟨b2, ⟨x0, b1, n2⟩, n4, hAc, hFi, hBo⟩
  · rw [if_pos b1, if_pos b2]
    exact ⟨0, g, 0, 0, _, rfl, rfl, hp0.r MEq.rf, by omega, by omega⟩
  obtain ⟨l7, xs7, c1, c2, c3, c4, c5⟩ := hAc
  obtain ⟨nf, ⟨l8, xs8, d1, d2, d3, d4⟩, d5, d6, d7⟩ := hFi
  obtain ⟨l9, xs9, e1, e2, e3, e4, e5, e6⟩ := hBo
  -- the component
  obtain ⟨g1, dc, ds, a1, a2, a3, a4, a5, a6⟩ := X3_copy_l hE.1 n2 n3' 2
  obtain ⟨g2, hg2⟩ : ∃ g2, g2 = pR g1 a 1 (gz g + 1) := ⟨_, rfl⟩
  have F12 : Fr (fun q => q = a) g1 g2 := by rw [hg2]; exact Fr.pR rfl
  have F2 : Fr (fun q => q = a) g g2 := (a3.mono (fun _ _ k => k.elim)).trans F12 (fun _ _ k => k)
  have hA2 : Ag g ρ (nr ρ g 2) := nr_ag
  have hna : ∀ q, ρ q = 0 ∨ ρ q = 0 → ¬ q = a := fun q k k2 => by rw [k2, ha.2.1] at k; omega
  have kg1 : gK g1 a = 1 := by rw [a3.K ha.2.2.1, ha.1]
  have k2 : gK g2 a = 1 := by rw [F2.K ha.2.2.1, ha.1]
  have la2 := F2.lt ha.2.2.1
  have hra2 : nr ρ g 2 a = 1 := by rw [nr_lt ha.2.2.1, ha.2.1]
  have R2 : ∀ i, gR g2 a i = if i = 1 then gz g + 1 else gR g a i := fun i => by
    rw [hg2, R_pR]
    by_cases q : i = 1
    · rw [if_pos ⟨rfl, q⟩, if_pos q]
    · rw [if_neg (by rintro ⟨-, k⟩; exact q k), if_neg q, a3.R ha.2.2.1 (fun k => k)]
  have I2 : ∀ i, gI g2 a i = gI g a i := fun i => by rw [hg2, I_pR, a3.I ha.2.2.1 (fun k => k)]
  obtain ⟨h1, h2, g3, o1, o2, o3, o4, o5, o6, F3, R3, I3, L3, z3, k3⟩ := dup_l (src := 12) (dst := 7) (rd := 3) (hE.1.to F2 hA2) (by decide) k2 hra2 la2 (by rw [R2, if_neg (by decide), c1]) (c2.to F2 hA2 (fun q _ k => hna q k))
  have F03 : Fr (fun q => q = a) g g3 := F2.trans F3 (fun _ _ k => k)
  have hA3 : Ag g ρ (nr (nr ρ g 2) g2 3) := hA2.trans nr_ag F2.z
  have la3 := F03.lt ha.2.2.1
  have hra3 : nr (nr ρ g 2) g2 3 a = 1 := by rw [nr_lt la2, hra2]
  obtain ⟨h3, h4, g4, p1, p2, p3, p4, p5, p6, F4, R4, I4, L4, z4, k4⟩ := dup_l (src := 13) (dst := 8) (rd := 4) (hE.1.to F03 hA3) (by decide) k3 hra3 la3 (by rw [R3, if_neg (by decide), R2, if_neg (by decide), d1]) (d2.to F03 hA3 (fun q _ k => hna q k))
  have F04 : Fr (fun q => q = a) g g4 := F03.trans F4 (fun _ _ k => k)
  have hA4 : Ag g ρ (nr (nr (nr ρ g 2) g2 3) g3 4) := hA3.trans nr_ag F03.z
  have la4 := F04.lt ha.2.2.1
  have hra4 : nr (nr (nr ρ g 2) g2 3) g3 4 a = 1 := by rw [nr_lt la3, hra3]
  obtain ⟨h5, h6, g5, q1, q2, q3, q4, q5, q6, F5, R5, I5, L5, z5, k5⟩ := dup_l (src := 14) (dst := 9) (rd := 5) (hE.1.to F04 hA4) (by decide) k4 hra4 la4 (by rw [R4, if_neg (by decide), R3, if_neg (by decide), R2, if_neg (by decide), e1]) (e2.to F04 hA4 (fun q _ k => hna q k))
  have F05 : Fr (fun q => q = a) g g5 := F04.trans F5 (fun _ _ k => k)
  have hA5 : Ag g ρ (nr (nr (nr (nr ρ g 2) g2 3) g3 4) g4 5) := hA4.trans nr_ag F04.z
  have F15 : Fr (fun q => q = a) g1 g5 := ((F12.trans F3 (fun _ _ k => k)).trans F4 (fun _ _ k => k)).trans F5 (fun _ _ k => k)
  have A25 : Ag g2 (nr ρ g 2) (nr (nr (nr (nr ρ g 2) g2 3) g3 4) g4 5) := (nr_ag.trans nr_ag F3.z).trans nr_ag (F3.trans F4 (fun _ _ k => k)).z
  have A15 : Ag g1 (nr ρ g 2) (nr (nr (nr (nr ρ g 2) g2 3) g3 4) g4 5) := fun q hq => A25 q (F12.lt hq)
  have F35 : Fr (fun q => q = a) g3 g5 := F4.trans F5 (fun _ _ k => k)
  have A35 : Ag g3 (nr (nr ρ g 2) g2 3) (nr (nr (nr (nr ρ g 2) g2 3) g3 4) g4 5) := nr_ag.trans nr_ag F4.z
  have hR : ∀ i, gR g5 a i = if i = 9 then gz g4 + 1 else if i = 8 then gz g3 + 1 else if i = 7 then gz g2 + 1 else if i = 1 then gz g + 1 else gR g a i := fun i => by rw [R5, R4, R3, R2]
  have hI : ∀ i, i ∉ [] → gI g5 a i = gI g a i := fun i _ => by rw [I5, I4, I3, I2]
  have hR' : ∀ i, i ∉ [1, 7, 8, 9] → gR g5 a i = gR g a i := fun i hi => by
    rw [hR, if_neg (fun k => hi (by simp [k])), if_neg (fun k => hi (by simp [k])), if_neg (fun k => hi (by simp [k])), if_neg (fun k => hi (by simp [k]))]
  -- the model
  obtain ⟨σ1, hσ1⟩ : ∃ σ1, σ1 = s_I (s_I (s_I (s_I σ 0 0) 56 (m_I σ 79)) 74 (m_I σ 80)) 76 (m_I σ 81) := ⟨_, rfl⟩
  have hM1 : Mf [0, 56, 74, 76] [53, 55, 75, 77] σ σ1 := by
    rw [hσ1]
    exact (((Mf.sI (LI := [0, 56, 74, 76]) (LA := [53, 55, 75, 77]) (by decide)).trans (Mf.sI (LI := [56]) (LA := []) (by decide)) (by decide) (fun _ k => by cases k)).trans (Mf.sI (LI := [74]) (LA := []) (by decide)) (by decide) (fun _ k => by cases k)).trans (Mf.sI (LI := [76]) (LA := []) (by decide)) (by decide) (fun _ k => by cases k)
  obtain ⟨σ2, r1, r2, r3⟩ := copies_l (σ := σ1) (a1 := 82) (a2 := 53) (L := 12) rfl rfl rfl rfl (by omega) (by omega) (by decide)
  obtain ⟨σ3, s1, s2, s3⟩ := copies_l (σ := σ2) (a1 := 83) (a2 := 55) (L := 80) rfl rfl rfl rfl (by omega) (by omega) (by decide)
  obtain ⟨σ4, t1, t2, t3⟩ := copies_l (σ := σ3) (a1 := 84) (a2 := 75) (L := 16) rfl rfl rfl rfl (by omega) (by omega) (by decide)
  obtain ⟨σ5, u1, u2, u3⟩ := copies_l (σ := σ4) (a1 := 85) (a2 := 77) (L := 16) rfl rfl rfl rfl (by omega) (by omega) (by decide)
  have hM : Mf [0, 56, 74, 76] [53, 55, 75, 77] σ σ5 := (((hM1.trans r2 (fun _ k => by cases k) (by decide)).trans s2 (fun _ k => by cases k) (by decide)).trans t2 (fun _ k => by cases k) (by decide)).trans u2 (fun _ k => by cases k) (by decide)
  have hi : ∀ j, m_I σ5 j = m_I σ1 j := fun j => by rw [u2.I (by simp), t2.I (by simp), s2.I (by simp), r2.I (by simp)]
  have v82 : ∀ i, i < 12 → m_A σ5 53 i = m_A σ 82 i := fun i hi => by rw [u2.A (by decide), t2.A (by decide), s2.A (by decide), r3, if_pos hi, hM1.A (by decide)]
  have v83 : ∀ i, i < 80 → m_A σ5 55 i = m_A σ 83 i := fun i hi => by rw [u2.A (by decide), t2.A (by decide), s3, if_pos hi, r2.A (by decide), hM1.A (by decide)]
  have v84 : ∀ i, i < 16 → m_A σ5 75 i = m_A σ 84 i := fun i hi => by rw [u2.A (by decide), t3, if_pos hi, s2.A (by decide), r2.A (by decide), hM1.A (by decide)]
  have v85 : ∀ i, i < 16 → m_A σ5 77 i = m_A σ 85 i := fun i hi => by rw [u3, if_pos hi, t2.A (by decide), s2.A (by decide), r2.A (by decide), hM1.A (by decide)]
  have w79 : m_I σ5 56 = nI xs7.length := by rw [hi, ← c3, hσ1]; rfl
  have w80 : m_I σ5 74 = nI nf := by rw [hi, ← d5, hσ1]; rfl
  have w81 : m_I σ5 76 = nI xs9.length := by rw [hi, ← e3, hσ1]; rfl
  obtain ⟨B, N, Z, Ta, Re, Ac, Fi, Bo, Ke, Im, En, Ou⟩ := hp.all (LR := [1, 7, 8, 9]) (LJ := []) (D := [1]) F05 hA5 (fun r hr q _ k e => by
    rw [e, ha.2.1] at k; exact hr (by simp [k])) hR' hI hM (by decide)
  have m12 : ∀ i, i < 6 + m → i < 12 := fun i hi => by omega
  have hn2 : ∀ q, nr ρ g 2 q = 2 ∨ nr ρ g 2 q = 0 → ¬ q = a := fun q k k2 => by rw [k2, hra2] at k; omega
  have hn3 : ∀ q, nr (nr ρ g 2) g2 3 q = 3 ∨ nr (nr ρ g 2) g2 3 q = 0 → ¬ q = a := fun q k k2 => by rw [k2, hra3] at k; omega
  have hn4 : ∀ q, nr (nr (nr ρ g 2) g2 3) g3 4 q = 4 ∨ nr (nr (nr ρ g 2) g2 3) g3 4 q = 0 → ¬ q = a := fun q k k2 => by rw [k2, hra4] at k; omega
  have hSet : SetP g5 (nr (nr (nr (nr ρ g 2) g2 3) g3 4) g4 5) 2 (gz g) m (m_A σ5 53) := (a2.to F15 A15 (fun q _ k => hn2 q k)).congr (fun i hi => v82 i (m12 i hi))
  have hAc5 : AcR g5 (nr (nr (nr (nr ρ g 2) g2 3) g3 4) g4 5) xs7 m h (m_A σ5 53) (m_A σ5 55) := (c5.to F05 hA5 (fun q _ k => hna q (Or.inl k))).congr (fun i hi => v82 i (m12 i hi)) (fun i hi => v83 i (by omega))
  have hFi5 : FilP g5 (nr (nr (nr (nr ρ g 2) g2 3) g3 4) g4 5) 4 a 8 T (m_A σ5 75) (m_I σ5 74) := by
    refine ⟨nf, ⟨gz g3, xs8, by rw [hR, if_neg (by decide), if_pos rfl], L4.to F5 nr_ag (fun q _ k => hn4 q k), d3, (d4.to F05 hA5 (fun q _ k => hna q (Or.inl k))).congr (fun i hi => v84 _ (by omega)) (fun i hi => v84 _ (by omega))⟩, w80, d6, fun j hj => ?_⟩
    rw [v84 _ (by omega), v84 _ (by omega)]
    exact d7 j hj
  have hBo5 : BooP g5 (nr (nr (nr (nr ρ g 2) g2 3) g3 4) g4 5) 5 a 9 (m_A σ5 77) (m_I σ5 76) := ⟨gz g4, xs9, by rw [hR, if_pos rfl], L5, w81, e4, (e5.to F05 hA5 (fun q _ k => hna q (Or.inl k))).congr (fun i hi => v85 _ (by omega)), fun i hi => by rw [v85 _ (by omega)]; exact e6 i hi⟩
  have hb78 : ¬ m_I σ 78 = 0 := by rw [b2]; decide
  refine ⟨1, g5, 0 + 1 + 1 + 1 + 1 + 1 + 1 + dc, 0 + xs9.length + 3 + xs8.length + 3 + xs7.length + 3 + ds, σ5, ?_, ?_, ⟨_, _, _, _, _, _, _, _, _, B (by decide), ⟨?_, hSet, ⟨by rw [hM.I (by decide)]; exact n3, n3'⟩, n4.congr (fun i hi => v82 i (m12 i hi))⟩, Z (by decide), Ta (by decide), Re (by decide), ⟨gz g2, xs7, ?_, L3.to F35 A35 (fun q _ k => hn3 q k), w79, c4, hAc5⟩, hFi5, hBo5, Ke (by decide), Im (by decide), En, Ou⟩, by omega, by omega⟩
  · rw [if_neg (by omega), b1, e_nn, e_wk n2.1, a1, e_ca, e_wk kg1, ← hg2, e_al, o1, e_wk o2, o3, e_nn, o4, e_ca, e_wk o5, o6, e_al, p1, e_wk p2, p3, e_nn, p4, e_ca, e_wk p5, p6, e_al, q1, e_wk q2, q3, e_nn, q4, e_ca, e_wk q5, q6, e_bp, e_bp, e_bp, e_bp, e_bp, e_bp, e_bp]
  · rw [if_neg hb78, ← hσ1, r1, e_ob, s1, e_ob, t1, e_ob, u1, e_ob]
  · rw [hR, if_neg (by decide), if_neg (by decide), if_neg (by decide), if_pos rfl]
  · rw [hR, if_neg (by decide), if_neg (by decide), if_pos rfl]
end
section
/-! LAWS: marks: the places (own work) -/
set_option maxRecDepth 100000
theorem adds_lp {σ : MS} {c : Nat} (p : Int32) (h69 : m_I σ 69 = nI c) (hc : c ≤ 13) : lp_ (fun a : Int32 × Int32 => X4_addsSpot_b4 p σ a.1 a.2) fu_ (0, 0) = some (if hs_ (m_A σ 71) c p = true then 1 else 0) := by
  rcases Nat.eq_zero_or_pos c with h0 | h0
  · have hf : fu_ = (fu_ - 1) + 1 := by unfold fu_; omega
    rw [hf]
    subst h0
    refine lp_end ?_ _
    show X4_addsSpot_b4 p σ 0 0 = _
    unfold X4_addsSpot_b4
    rw [h69, if_pos (by decide)]
    rfl
  obtain ⟨k1, k2, k3⟩ := for_l (enc := fun (c : Int32) t => (c, nI t)) (fun a : Int32 × Int32 => X4_addsSpot_b4 p σ a.1 a.2) (c - 1) (fun t c => if c = 0 then (if m_A σ 71 t = p then 1 else 0) else 1) (fun c => c)
    (fun t c => (c = 0 ∨ c = 1) ∧ (c = 1 ↔ ∃ i, i < t ∧ m_A σ 71 i = p))
    (fun t c ht ⟨p1, p2⟩ => by
      rcases p1 with rfl | rfl
      · rw [if_pos rfl]
        have hno : ∀ i, i < t → ¬ m_A σ 71 i = p := fun i hi k => absurd (p2.mpr ⟨i, hi, k⟩) (by decide)
        by_cases q : m_A σ 71 t = p
        · rw [if_pos q]
          exact ⟨Or.inr rfl, fun _ => ⟨t, by omega, q⟩, fun _ => rfl⟩
        · rw [if_neg q]
          refine ⟨Or.inl rfl, fun k => absurd k (by decide), ?_⟩
          rintro ⟨i, hi, k⟩
          by_cases e : i = t
          · rw [e] at k; exact absurd k q
          · exact absurd k (hno i (by omega))
      · rw [if_neg nn01]
        obtain ⟨i, hi, k⟩ := p2.mp rfl
        exact ⟨Or.inr rfl, fun _ => ⟨i, by omega, k⟩, fun _ => rfl⟩)
    (fun t b ht p12 => by
      clear p12
      show X4_addsSpot_b4 p σ b (nI t) = _
      unfold X4_addsSpot_b4 X4_addsSpot_j26 X4_addsSpot_j31
      rw [h69, if_neg (nI_ge (show t < c by omega) (by omega)), nI_1, nI_clamp (show t < 2 ^ 31 by omega), e_inN (show t < 13 by omega) (by omega)]
      by_cases q : b = 0
      · rw [if_pos q, if_pos q]
        by_cases q2 : m_A σ 71 t = p
        · rw [if_pos q2, if_pos q2]
        · rw [if_neg q2, if_neg q2]
      · rw [if_neg q, if_neg q])
    (fun b _ => by
      show X4_addsSpot_b4 p σ b (nI (c - 1 + 1)) = _
      unfold X4_addsSpot_b4
      rw [h69, if_pos (nI_le (by omega) (by omega))]) 0 ⟨Or.inl rfl, fun k => absurd k (by decide), fun ⟨i, hi, _⟩ => absurd hi (Nat.not_lt_zero _)⟩ (n := fu_) (by unfold fu_; omega)
  rw [show (lp_ (fun a : Int32 × Int32 => X4_addsSpot_b4 p σ a.1 a.2) fu_ (0, 0)) = _ from k1]
  rw [show c - 1 + 1 = c by omega] at k2 k3 ⊢
  rcases k2 with q | q
  · rw [q, hs_f (fun i hi k => absurd (k3.mpr ⟨i, hi, k⟩) (by rw [q]; decide))]
    rfl
  · rw [q, if_pos (hs_t.mpr (k3.mp q))]
theorem adds_l {σ : MS} {c : Nat} (p : Int32) (h69 : m_I σ 69 = nI c) (hc : c ≤ 12) : X4_addsSpot p σ = some (if hs_ (m_A σ 71) c p = true then σ else s_I (s_A σ 71 c p) 69 (nI (c + 1))) := by
  unfold X4_addsSpot
  rw [adds_lp p h69 (by omega), e_ob]
  cases hs_ (m_A σ 71) c p with
  | true => rw [if_pos rfl, if_neg nn01, if_pos rfl]
  | false => rw [if_neg (show ¬ (false = true) by decide), if_pos rfl, if_neg (show ¬ (false = true) by decide), h69, e_inN (by omega) (by omega), nI_clamp (by omega), nI_1]
/-- the places found so far: the list P and the model's row 71 -/
def PlcP (g : GS) (ρ : Nat → Nat) (P : Nat) (ps : List Nat) (σ : MS) : Prop := LiP g ρ 11 P ps ∧ IP g ρ ps (m_A σ 71) ∧ m_I σ 69 = nI ps.length ∧ ∀ i, i < ps.length → 12 ≤ (m_A σ 71 i).toInt ∧ (m_A σ 71 i).toInt ≤ 480
/-- one more place -/
theorem PlcP.add {g : GS} {ρ : Nat → Nat} {P : Nat} {ps : List Nat} {σ : MS} (h : PlcP g ρ P ps σ) (hl : ps.length ≤ 12) (hE : EnvP g ρ) {w : Int32} (hw : 12 ≤ w.toInt ∧ w.toInt ≤ 480) :
    ∃ z g1 g2 dc1 ds1 dc2 ds2 ρ2, J19_valueOf w g = some ((z, g1), dc1, ds1) ∧ gK g1 P = 12 ∧ J2_add P z g1 = some ((1, g2), dc2, ds2) ∧ Fr (fun q => ρ q = 11) g g2 ∧ Ag g ρ ρ2 ∧ PlcP g2 ρ2 P (ps ++ [z]) (s_I (s_A σ 71 ps.length w) 69 (nI (ps.length + 1))) ∧ dc1 ≤ 1 ∧ ds1 ≤ 1 ∧ dc2 ≤ 1 ∧ ds2 ≤ 40 := by
  obtain ⟨b2, b5, b3, b6⟩ := h
  obtain ⟨z, g1, dc1, ds1, c1, c2, c3, c4, c5, c6, c7, c8, c9⟩ := J19_valueOf_l hE.2.1 w
  obtain ⟨e, he⟩ := b2
  have he1 : LiPe g1 (nr ρ g 0) 11 P e ps := he.to c2 nr_ag (fun _ _ _ k => k)
  obtain ⟨g2, e', dc2, ds2, d1, d2, d3, d4, d5, d6, d7, d8, d9⟩ := J2_add_l he1 (by rw [c2.S]; obtain ⟨⟨d, hd, -⟩, -⟩ := hE.1; exact ⟨d, hd⟩) (by omega) c5 (by rw [c3]; rfl)
  have hF : Fr (fun q => ρ q = 11) g g2 := (c2.mono (fun _ _ k => k.elim)).trans (he1.fr d3) (fun q hq k => by rw [nr_lt hq] at k; exact k)
  have hA : Ag g ρ (nr (nr ρ g 0) g1 11) := nr_ag.trans nr_ag c2.z
  refine ⟨z, g1, g2, dc1, ds1, dc2, ds2, nr (nr ρ g 0) g1 11, c1, he1.1, d1, hF, hA, ⟨⟨e', d2⟩, fun i u hu => ?_, by rw [len_snoc]; rfl, fun i hi => ?_⟩, c7, c8, d4, by omega⟩
  · show _ ∧ _ ∧ _ ∧ gI g2 u 0 = m_A (s_A σ 71 ps.length w) 71 i
    rw [rA_sA]
    rcases get_snoc hu with ⟨q1, q2⟩ | ⟨q1, q2⟩
    · obtain ⟨f1, f2, f3, f4⟩ := b5 i u q2
      rw [if_neg (by rintro ⟨-, k⟩; exact Nat.ne_of_lt q1 k), hF.K f3, hA u f3, hF.I f3 (by rw [f2]; decide)]
      exact ⟨f1, f2, hF.lt f3, f4⟩
    · subst q1 q2
      have hz5 : ¬ nr ρ g 0 u = 11 := by rw [c4]; decide
      rw [if_pos ⟨rfl, rfl⟩, d3.K c5, nr_lt c5, (he1.fr d3).I c5 hz5]
      exact ⟨c3, c4, d3.lt c5, c6⟩
  · show 12 ≤ (m_A (s_A σ 71 ps.length w) 71 i).toInt ∧ (m_A (s_A σ 71 ps.length w) 71 i).toInt ≤ 480
    rw [rA_sA]
    rw [len_snoc] at hi
    by_cases q : i = ps.length
    · rw [if_pos ⟨rfl, q⟩]; exact hw
    · rw [if_neg (by rintro ⟨-, k⟩; exact q k)]; exact b6 i (Nat.lt_of_le_of_ne (Nat.le_of_lt_succ hi) q)
theorem PlcP.to {W : Nat → Prop} {g g' : GS} {ρ ρ' : Nat → Nat} {P : Nat} {ps : List Nat} {σ σ' : MS} (h : PlcP g ρ P ps σ) (hF : Fr W g g') (hA : Ag g ρ ρ') (hW : ∀ q, q < gz g → ρ q = 11 ∨ ρ q = 0 → ¬ W q) (e69 : m_I σ' 69 = m_I σ 69) (e71 : m_A σ' 71 = m_A σ 71) : PlcP g' ρ' P ps σ' := by
  obtain ⟨h1, h2, h3, h4⟩ := h
  exact ⟨h1.to hF hA hW, by rw [e71]; exact h2.to hF hA (fun q hq k => hW q hq (Or.inr k)), by rw [e69, h3], by rw [e71]; exact h4⟩
/-- places -/
theorem places_l {g : GS} {ρ : Nat → Nat} {sc n k h : Nat} {σ : MS} (x1 : Int32) (hS : ScP g ρ sc n k h σ) (hE : EnvP g ρ) :
    ∃ g' ρ' dc ds σ1 σ2 ps, X2_places sc g = some ((gz g, g'), dc, ds) ∧ X4_addsSpot (m_I σ 1) (s_I σ 69 0) = some σ1 ∧ lp_ (fun a : Int32 × MS => X4_marks_b36 x1 a.1 a.2) fu_ (0, σ1) = some σ2 ∧ Fr (fun q => ρ q = 11) g g' ∧ Ag g ρ ρ' ∧ PlcP g' ρ' (gz g) ps σ2 ∧ ps.length ≤ 13 ∧ Mf [69] [71] σ σ2 ∧ dc ≤ 100 ∧ ds ≤ 1200 ∧ gz g < gz g' := by
  obtain ⟨⟨s1, s2, s3, s4, s5⟩, ⟨⟨p1, p2⟩, -, -⟩, ⟨⟨l, xs, t1, t2, t3, t4⟩, -, -⟩, -, ⟨w1, -, w3, -⟩⟩ := hS
  obtain ⟨g1, e, a1, a2, a3, a4, a5, a6⟩ := J2_init_l hE.1 11
  have hA1 : Ag g ρ (nr ρ g 11) := nr_ag
  have hE1 : EnvP g1 (nr ρ g 11) := hE.to a3 hA1 (fun _ _ _ k => k)
  have hP0 : PlcP g1 (nr ρ g 11) (gz g) [] (s_I σ 69 0) := ⟨⟨e, a2⟩, fun i y hy => (by cases hy), rfl, fun i hi => absurd hi (Nat.not_lt_zero _)⟩
  obtain ⟨z, g2, g3, dc1, ds1, dc2, ds2, ρ3, b1, b2, b3, b4, b5, b6, b7, b8, b9, b10⟩ := hP0.add (Nat.zero_le _) hE1 (w := m_I σ 1) w3
  have F3 : Fr (fun q => ρ q = 11) g g3 := (a3.mono (fun _ _ k => k.elim)).trans b4 (fun q hq k => by rw [nr_lt hq] at k; exact k)
  have hA3 : Ag g ρ ρ3 := hA1.trans b5 a3.z
  have hm1 : X4_addsSpot (m_I σ 1) (s_I σ 69 0) = some (s_I (s_A (s_I σ 69 0) 71 0 (m_I σ 1)) 69 (nI (0 + 1))) := adds_l (c := 0) _ rfl (by omega)
  have hM1 : Mf [69] [71] σ (s_I (s_A (s_I σ 69 0) 71 0 (m_I σ 1)) 69 (nI (0 + 1))) := ((Mf.sI (LI := [69]) (LA := [71]) (by decide)).trans (Mf.sA (LI := []) (LA := [71]) (by decide)) (fun _ k => by cases k) (fun _ k => k)).trans (Mf.sI (LI := [69]) (LA := []) (by decide)) (fun _ k => k) (fun _ k => by cases k)
  obtain ⟨σ1, hσ1⟩ : ∃ σ1, σ1 = s_I (s_A (s_I σ 69 0) 71 0 (m_I σ 1)) 69 (nI (0 + 1)) := ⟨_, rfl⟩
  rw [← hσ1] at hm1 hM1
  have hP3 : PlcP g3 ρ3 (gz g) [z] σ1 := by rw [hσ1]; exact b6
  have hzz : gz g < gz g3 := Nat.lt_of_lt_of_le (by rw [a4]; exact Nat.lt_succ_self _) b4.z
  obtain ⟨e1, e2, dc, ds, m1, m2, m3, m4, ρ', ps, m5, m6, m7, m8, m9⟩ := la2_t (body := fun a1 : Int32 × GS => X2_places_b24 sc (gz g) a1.1 a1.2) (body' := fun a : Int32 × MS => X4_marks_b36 x1 a.1 a.2)
    (I := fun j a1 b c d => ∃ t ρ1 ps, a1.1 = nI t ∧ b.1 = nI t ∧ t ≤ n ∧ j = n - t ∧ c ≤ 3 * t ∧ d ≤ 42 * t ∧ Fr (fun q => ρ q = 11) g a1.2 ∧ Ag g ρ ρ1 ∧ PlcP a1.2 ρ1 (gz g) ps b.2 ∧ ps.length ≤ t + 1 ∧ Mf [69] [71] σ b.2)
    (Q := fun e e' c d => c ≤ 36 ∧ d ≤ 504 ∧ ∃ ρ1 ps, Fr (fun q => ρ q = 11) g e ∧ Ag g ρ ρ1 ∧ PlcP e ρ1 (gz g) ps e' ∧ ps.length ≤ 13 ∧ Mf [69] [71] σ e')
    (by
      rintro j ⟨i1, g4⟩ ⟨i2, σ4⟩ c d ⟨t, ρ1, ps, f1, f2, f3, f4, f5, f6, f7, f8, f9, f10, f11⟩
      simp only at f1 f2 f7 f9 f11 ⊢
      subst f1 f2
      have ks : gK g4 sc = 2 := by rw [f7.K s3, s1]
      have rs : gR g4 sc 0 = l + 1 := by rw [f7.R s3 (by rw [s2]; decide), t1]
      have L4 : LiP g4 ρ1 0 l xs := t2.to f7 f8 (fun q _ k k2 => by rw [k2] at k; omega)
      unfold X2_places_b24 X4_marks_b36
      rw [e_wk ks, rs, e_nn, e_wk L4.K, J2_size_l L4, e_ob, t3, f11.I (by decide), p1]
      by_cases ht : t < n
      · have hlt : ¬ nI n ≤ nI t := nI_ge ht (by omega)
        obtain ⟨y, hy⟩ := get_ex (xs := xs) (k := t) (by omega)
        obtain ⟨q1, q2, q3, q4, q5, q6⟩ := t4 t y hy
        have ky : gK g4 y = 100 := by rw [f7.K q6, q1]
        have ny : gN g4 y = 2 := by rw [f7.N q6, q2]
        have iy : gI g4 y 0 = m_A σ 8 t := by rw [f7.I q6 (by rw [q3]; decide), q4]
        have hE4 : EnvP g4 ρ1 := hE.to f7 f8 (fun q _ k k2 => by rw [k] at k2; cases k2)
        obtain ⟨z1, g5, dc5, ds5, v1, v2, v3, v4, v5, v6, v7, v8, v9⟩ := J19_valueOf_l hE4.2.1 (m_A σ 8 t)
        have P5 : PlcP g5 (nr ρ1 g4 0) (gz g) ps σ4 := f9.to v2 nr_ag (fun _ _ _ k => k) rfl rfl
        have F5 : Fr (fun q => ρ q = 11) g g5 := f7.trans v2 (fun _ _ k => k.elim)
        have A5 : Ag g ρ (nr ρ1 g4 0) := f8.trans nr_ag f7.z
        have e8 : m_A σ4 8 t = m_A σ 8 t := f11.A (by decide) t
        rw [if_neg hlt, if_neg hlt, e_nn, e_wk L4.K, J2_get_l L4 hy, e_ob, e_rk (by rw [ky]), ny, e_i0 (by decide) (by decide), cl_0, iy, v1, e_ca, e_wk P5.1.K, J2_contains_l P5.1 P5.2.1 v3 v6, e_ob, e_inN (by omega) (by omega), nI_clamp (by omega), e8, adds_l _ f9.2.2.1 (by omega), e_ob]
        unfold X2_places_j89
        cases hb : hs_ (m_A σ4 71) ps.length (m_A σ 8 t) with
        | true =>
          rw [if_pos rfl, if_pos rfl, if_neg nn01, nI_1]
          exact Or.inl ⟨_, _, dc5, ds5, j - 1, by omega, by rw [e_b0], rfl, t + 1, _, ps, rfl, rfl, by omega, by omega, by omega, by omega, F5, A5, P5, by omega, f11⟩
        | false =>
          rw [if_neg (show ¬ (false = true) by decide), if_neg (show ¬ (false = true) by decide), if_pos rfl]
          have hE5 : EnvP g5 (nr ρ1 g4 0) := hE4.to v2 nr_ag (fun _ _ _ k => k)
          obtain ⟨z2, g6, g7, dc6, ds6, dc7, ds7, ρ7, u1, u2, u3, u4, u5, u6, u7, u8, u9, u10⟩ := P5.add (by omega) hE5 (w := m_A σ 8 t) (w1 t ht).1
          have L5 : LiP g5 (nr ρ1 g4 0) 0 l xs := L4.to v2 nr_ag (fun _ _ _ k => k)
          have F7 : Fr (fun q => ρ q = 11) g g7 := F5.trans u4 (fun q hq k => by rw [A5 q hq] at k; exact k)
          rw [e_wk (by rw [F5.K s3, s1]), F5.R s3 (by rw [s2]; decide), t1, e_nn, e_wk L5.K, J2_get_l L5 hy, e_ob, e_rk (by rw [F5.K q6, q1]), F5.N q6, q2, e_i0 (by decide) (by decide), F5.I q6 (by rw [q3]; decide), q4, u1, e_ca, e_wk u2, u3, e_ca, nI_1, e_b0, e_bp, e_bp]
          refine Or.inl ⟨_, _, _, _, j - 1, by omega, rfl, rfl, t + 1, ρ7, ps ++ [z2], rfl, rfl, by omega, by omega, by omega, by omega, F7, A5.trans u5 F5.z, u6, by rw [len_snoc]; omega, ?_⟩
          exact (f11.trans (Mf.sA (LI := []) (LA := [71]) (by decide)) (fun _ k => by cases k) (fun _ k => k)).trans (Mf.sI (LI := [69]) (LA := []) (by decide)) (fun _ k => k) (fun _ k => by cases k)
      · have hlt : nI n ≤ nI t := nI_le (by omega) (by omega)
        rw [if_pos hlt, if_pos hlt]
        exact Or.inr ⟨_, _, 0, 0, rfl, rfl, by omega, by omega, ρ1, ps, f7, f8, f9, by omega, f11⟩)
    fu_ n (0, g3) (0, σ1) 0 0 ⟨0, ρ3, [z], rfl, rfl, Nat.zero_le _, rfl, by omega, by omega, F3, hA3, hP3, by simp, hM1⟩ (by unfold fu_; omega)
  have hz0 : gz g < gz e1 := by
    have hPK := m7.1.lt
    exact hPK
  refine ⟨e1, ρ', dc + dc2 + dc1 + 1, ds + ds2 + ds1 + 3, σ1, e2, ps, ?_, hm1, m2, m5, m6, m7, m8, m9, by omega, by omega, hz0⟩
  unfold X2_places
  rw [e_al, a1, e_ob, e_wk (by rw [a3.K s3, s1]), a3.I s3 (fun k => k), s4, b1, e_ca, e_wk b2, b3, e_ca, m1, e_oa, e_b0, e_bp, e_bp, e_bp]
end
section
/-! LAWS: marks: the next numbers (own work) -/
set_option maxRecDepth 100000
/-- what nextNumbers leaves behind the last numbers that begin with the first j of N -/
def NxP (k c : Nat) (N : Nat → Nat) : Nat → Int32 → (Nat → Int32) → Prop
  | 0, fl, _ => fl = 0
  | j + 1, fl, A => if N j + (k - j) < c then fl = 1 ∧ (∀ i, i < j → A i = nI (N i)) ∧ ∀ t, t < k - j → A (j + t) = nI (N j + 1 + t) else NxP k c N j fl A
theorem NxP.up {k c : Nat} {N : Nat → Nat} {fl : Int32} {A : Nat → Int32} {i : Nat} (h : NxP k c N i fl A) : ∀ d, i + d ≤ k → (∀ q, i ≤ q → q < k → ¬ N q + (k - q) < c) → NxP k c N (i + d) fl A := by
  intro d
  induction d with
  | zero => intro _ _; exact h
  | succ d ih =>
    intro hd hq
    show NxP k c N (i + d + 1) fl A
    unfold NxP
    rw [if_neg (hq (i + d) (by omega) (by omega))]
    exact ih (by omega) hq
theorem NxP.congr {k c : Nat} {N N' : Nat → Nat} {fl : Int32} {A : Nat → Int32} : ∀ j, (∀ i, i < j → N' i = N i) → NxP k c N j fl A → NxP k c N' j fl A := by
  intro j
  induction j with
  | zero => intro _ h; exact h
  | succ j ih =>
    intro hN h
    unfold NxP at h ⊢
    rw [hN j (by omega)]
    by_cases q : N j + (k - j) < c
    · rw [if_pos q] at h ⊢
      obtain ⟨h1, h2, h3⟩ := h
      exact ⟨h1, fun i hi => by rw [hN i (by omega)]; exact h2 i hi, h3⟩
    · rw [if_neg q] at h ⊢
      exact ih (fun i hi => hN i (by omega)) h
theorem scan_l {σ : MS} {k c : Nat} {N : Nat → Nat} (hk : k ≤ 3) (hc : c ≤ 13) (h69 : m_I σ 69 = nI c) (hN : ∀ i, i < k → m_A σ 72 i = nI (N i)) (hNc : ∀ i, i < k → N i + (k - i) ≤ c) : ∀ i, i ≤ k → (∀ q, i ≤ q → q < k → ¬ N q + (k - q) < c) → ∀ n, i < n → ∃ i', i' ≤ i ∧ lp_ (fun a => X4_nextNumbers_b4 (nI k) σ a) n (nI i - 1) = some (nI i' - 1) ∧ (i' = 0 ∨ N (i' - 1) + (k - (i' - 1)) < c) ∧ ∀ q, i' ≤ q → q < k → ¬ N q + (k - q) < c := by
  intro i
  induction i with
  | zero =>
    intro _ hq n hn
    obtain ⟨f, rfl⟩ : ∃ f, n = f + 1 := ⟨n - 1, by omega⟩
    refine ⟨0, Nat.le_refl _, lp_end ?_ f, Or.inl rfl, hq⟩
    unfold X4_nextNumbers_b4
    rw [if_pos (by decide)]
  | succ p ih =>
    intro hi hq n hn
    obtain ⟨f, rfl⟩ : ∃ f, n = f + 1 := ⟨n - 1, by omega⟩
    have hp := hNc p (by omega)
    have e1 : nI c - nI k + nI p = nI (c - k + p) := by
      rw [i_eq, i_n (by omega), i_add (by rw [i_sub (by rw [i_n (by omega), i_n (by omega)]; omega) (by rw [i_n (by omega), i_n (by omega)]; omega), i_n (by omega), i_n (by omega), i_n (by omega)]; omega) (by rw [i_sub (by rw [i_n (by omega), i_n (by omega)]; omega) (by rw [i_n (by omega), i_n (by omega)]; omega), i_n (by omega), i_n (by omega), i_n (by omega)]; omega), i_sub (by rw [i_n (by omega), i_n (by omega)]; omega) (by rw [i_n (by omega), i_n (by omega)]; omega), i_n (by omega), i_n (by omega), i_n (by omega)]
      have h0 := hNc 0 (by omega)
      omega
    have hb : X4_nextNumbers_b4 (nI k) σ (nI (p + 1) - 1) = if nI (N p) = nI (c - k + p) then some (.inl (nI p + (-1))) else some (.inr (nI p)) := by
      unfold X4_nextNumbers_b4
      rw [nI_p, if_neg (nI_pos (by omega)), e_inN (by omega) (by omega), nI_clamp (by omega), hN p (by omega), h69, e1]
    by_cases hlim : N p + (k - p) < c
    · refine ⟨p + 1, Nat.le_refl _, lp_end ?_ f, Or.inr (by rw [Nat.add_sub_cancel]; exact hlim), hq⟩
      rw [hb, if_neg (fun k' => by have := nI_inj (by omega) (by omega) k'; omega), nI_p]
    · obtain ⟨i', r1, r2, r3, r4⟩ := ih (by omega) (fun q h1 h2 => by
        by_cases e : q = p
        · rw [e]; exact hlim
        · exact hq q (by omega) h2) f (by omega)
      refine ⟨i', by omega, ?_, r3, r4⟩
      rw [lp_next (b := nI p - 1), r2]
      have h0 := hNc 0 (by omega)
      rw [hb, if_pos (by rw [show N p = c - k + p by omega])]
      rw [Int32.sub_eq_add_neg]
theorem next_l {σ : MS} {k c : Nat} {N : Nat → Nat} (hk : k ≤ 3) (hc : c ≤ 13) (h69 : m_I σ 69 = nI c) (hN : ∀ i, i < k → m_A σ 72 i = nI (N i)) (hNc : ∀ i, i < k → N i + (k - i) ≤ c) : ∃ fl σ', X4_nextNumbers (nI k) σ = some (fl, σ') ∧ Mf [] [72] σ σ' ∧ NxP k c N k fl (m_A σ' 72) ∧ (fl = 0 ∨ fl = 1) := by
  obtain ⟨i', r1, r2, r3, r4⟩ := scan_l hk hc h69 hN hNc k (Nat.le_refl _) (fun q h1 h2 => by omega) fu_ (by unfold fu_; omega)
  unfold X4_nextNumbers
  rw [r2, e_ob]
  rcases Nat.eq_zero_or_pos i' with h0 | h0
  · subst h0
    rw [if_neg (by decide)]
    refine ⟨0, σ, rfl, Mf.rf, ?_, Or.inl rfl⟩
    have := NxP.up (k := k) (c := c) (N := N) (fl := 0) (A := m_A σ 72) (i := 0) rfl k (by omega) r4
    rwa [Nat.zero_add] at this
  · obtain ⟨p, rfl⟩ : ∃ p, i' = p + 1 := ⟨i' - 1, by omega⟩
    rw [Nat.add_sub_cancel] at r3
    have hp : N p + (k - p) < c := by omega
    rw [nI_p, if_pos (nI_pos' (by omega)), e_inN (by omega) (by omega), e_inN (by omega) (by omega), nI_clamp (by omega), hN p (by omega), nI_1]
    obtain ⟨σ', m1, m2, m3, m4⟩ := lp_t (body := fun a : Int32 × MS => X4_nextNumbers_b51 (nI k) a.1 a.2)
      (I := fun m a => ∃ t, a.1 = nI (p + 1 + t) ∧ p + 1 + t ≤ k ∧ m = k - (p + 1 + t) ∧ Mf [] [72] σ a.2 ∧ (∀ i, i < p → m_A a.2 72 i = nI (N i)) ∧ ∀ s, s ≤ t → m_A a.2 72 (p + s) = nI (N p + 1 + s))
      (Q := fun e => Mf [] [72] σ e ∧ (∀ i, i < p → m_A e 72 i = nI (N i)) ∧ ∀ t, t < k - p → m_A e 72 (p + t) = nI (N p + 1 + t))
      (by
        rintro m ⟨x3, σ1⟩ ⟨t, e1, e2, e3, e4, e5, e6⟩
        simp only at e1 e4 e5 e6 ⊢
        subst e1
        unfold X4_nextNumbers_b51
        by_cases ht : p + 1 + t < k
        · rw [if_neg (nI_ge ht (by omega))]
          have hq : nI (p + 1 + t) - 1 = nI (p + t) := by
            rw [show p + 1 + t = (p + t) + 1 by omega, nI_p]
          rw [hq, e_inN (by omega) (by omega), e_inN (by omega) (by omega), nI_clamp (by omega), nI_clamp (by omega), e6 t (Nat.le_refl _), nI_1, nI_1]
          refine Or.inl ⟨_, m - 1, by omega, rfl, t + 1, by rw [show p + 1 + (t + 1) = p + 1 + t + 1 by omega], by omega, by omega, e4.trans (Mf.sA (LI := []) (LA := [72]) (by decide)) (fun _ k => k) (fun _ k => k), fun i hi => ?_, fun s hs => ?_⟩
          · rw [rA_sA, if_neg (by rintro ⟨-, k⟩; omega), e5 i hi]
          · rw [rA_sA]
            by_cases q : s = t + 1
            · rw [if_pos ⟨rfl, by omega⟩, q, show N p + 1 + (t + 1) = N p + 1 + t + 1 by omega]
            · rw [if_neg (by rintro ⟨-, k⟩; omega), e6 s (by omega)]
        · rw [if_pos (nI_le (by omega) (by omega))]
          exact Or.inr ⟨_, rfl, e4, e5, fun s hs => e6 s (by omega)⟩)
      fu_ (k - (p + 1)) (nI (p + 1), s_A σ 72 p (nI (N p + 1))) ⟨0, rfl, by omega, rfl, Mf.sA (by decide), fun i hi => by rw [rA_sA, if_neg (by rintro ⟨-, k⟩; omega), hN i (by omega)], fun s hs => by
        have hs0 : s = 0 := Nat.le_zero.mp hs
        rw [hs0, rA_sA, if_pos ⟨rfl, rfl⟩]⟩ (by unfold fu_; omega)
    rw [nI_1, m1, e_ob]
    refine ⟨1, σ', rfl, m2, ?_, Or.inr rfl⟩
    have hbase : NxP k c N (p + 1) 1 (m_A σ' 72) := by
      unfold NxP
      rw [if_pos hp]
      exact ⟨rfl, m3, m4⟩
    have := hbase.up (k - (p + 1)) (by omega) r4
    rwa [show p + 1 + (k - (p + 1)) = k by omega] at this
end
section
/-! LAWS: marks: a choice of places is tried (own work) -/
set_option maxRecDepth 100000
/-- the take that Chalks runs, and what it needs -/
def GC (g : GS) (ρ : Nat → Nat) (a sc v n kk h T u x sa ra oa lm P : Nat) (ps : List Nat) (k : Nat) (σ : MS) : Prop :=
  CW g ρ a sc v n kk h σ ∧ TkP g ρ u a x sa ra oa ∧ TnP g u σ ∧
  (gK g x = 3 ∧ ρ x = 10 ∧ x < gz g ∧ (gI g x 0 = m_A σ 53 0 ∧ gI g x 1 = m_A σ 53 1 ∧ gI g x 2 = m_A σ 53 2 ∧ gI g x 3 = m_A σ 53 3 ∧ gI g x 4 = m_A σ 53 5 ∧ gI g x 5 = m_A σ 53 4) ∧ gR g x 6 = lm + 1) ∧
  (sm_ (m_A σ 9) n = nI T ∧ T ≤ 600) ∧ m_I σ 4 = nI k ∧ RowOK (m_A σ 53) 0 h ∧ PlcP g ρ P ps σ ∧ EnvP g ρ
/-- the best so far -/
def GK (g : GS) (ρ : Nat → Nat) (c9 P u k : Nat) (b : Int32) (σ : MS) : Prop :=
  (gK g c9 = 11 ∧ ρ c9 = 13 ∧ c9 < gz g ∧ gR g c9 0 = P + 1 ∧ gR g c9 1 = u + 1 ∧ gI g c9 3 = b) ∧
  ((b = -1 ∧ gR g c9 2 = 0) ∨ ∃ bl bs, 0 ≤ b.toInt ∧ gR g c9 2 = bl + 1 ∧ LiP g ρ 0 bl bs ∧ bs.length = k ∧ IP g ρ bs (m_A σ 70))
theorem GC.to {W : Nat → Prop} {g g' : GS} {ρ ρ' : Nat → Nat} {a sc v n kk h T u x sa ra oa lm P k : Nat} {ps : List Nat} {σ σ' : MS} (hG : GC g ρ a sc v n kk h T u x sa ra oa lm P ps k σ) (hF : Fr W g g') (hA : Ag g ρ ρ') (hW : ∀ q, q < gz g → W q → 9 ≤ ρ q ∧ ¬ q = u ∧ ¬ q = x ∧ ¬ ρ q = 11) (hM : Mf [] [70, 72] σ σ') : GC g' ρ' a sc v n kk h T u x sa ra oa lm P ps k σ' := by
  obtain ⟨hC, hK, ⟨⟨n1, n1'⟩, ⟨n2, n2'⟩, n3, n3'⟩, ⟨x1, x2, x3, ⟨y0, y1, y2, y3, y4, y5⟩, x5⟩, ⟨hs, hT⟩, h4, hR, hP, hE⟩ := hG
  have hu : ¬ W u := fun q => (hW u hK.1.2.2 q).2.1 rfl
  have hx : ¬ W x := fun q => (hW x x3 q).2.2.1 rfl
  have ha : ¬ W a := fun q => by
    have := (hW a hC.1.2.2.1 q).1
    rw [hC.1.2.1] at this
    omega
  have h0 : ∀ q, q < gz g → ρ q = 0 → ¬ W q := fun q hq k k2 => by
    have := (hW q hq k2).1
    omega
  have e53 : m_A σ' 53 = m_A σ 53 := hM.Af (by decide)
  refine ⟨hC.to hF hA h0 ⟨hF.R hC.1.2.2.1 ha 0, hF.R hC.1.2.2.1 ha 2⟩ hM (by decide) (by decide), hK.to hF hA (fun i => hF.R hK.1.2.2 hu i), ⟨⟨by rw [hF.I hK.1.2.2 hu, n1, hM.I (by decide)], by rw [hM.I (by decide)]; exact n1'⟩, ⟨by rw [hF.I hK.1.2.2 hu, n2, hM.I (by decide)], by rw [hM.I (by decide)]; exact n2'⟩, by rw [hF.I hK.1.2.2 hu, n3, hM.I (by decide)], by rw [hM.I (by decide)]; exact n3'⟩, ⟨by rw [hF.K x3, x1], by rw [hA x x3, x2], hF.lt x3, ?_, by rw [hF.R x3 hx, x5]⟩, ⟨by rw [hM.Af (by decide)]; exact hs, hT⟩, by rw [hM.I (by decide)]; exact h4, by rw [e53]; exact hR, hP.to hF hA (fun q hq k k2 => ?_) (hM.I (by decide)) (hM.Af (by decide)), hE.to hF hA h0⟩
  · rw [e53]
    exact ⟨by rw [hF.I x3 hx, y0], by rw [hF.I x3 hx, y1], by rw [hF.I x3 hx, y2], by rw [hF.I x3 hx, y3], by rw [hF.I x3 hx, y4], by rw [hF.I x3 hx, y5]⟩
  · obtain ⟨w1, -, -, w4⟩ := hW q hq k2
    rcases k with k | k
    · exact w4 k
    · omega
theorem GK.to {W : Nat → Prop} {g g' : GS} {ρ ρ' : Nat → Nat} {c9 P u k : Nat} {b : Int32} {σ σ' : MS} (hG : GK g ρ c9 P u k b σ) (hF : Fr W g g') (hA : Ag g ρ ρ') (hW : ∀ q, q < gz g → W q → ¬ ρ q = 13 ∧ ¬ ρ q = 0) (e70 : m_A σ' 70 = m_A σ 70) : GK g' ρ' c9 P u k b σ' := by
  obtain ⟨⟨c1, c2, c3, c4, c5, c6⟩, hb⟩ := hG
  have hc : ¬ W c9 := fun q => (hW c9 c3 q).1 c2
  have h0 : ∀ q, q < gz g → ρ q = 0 → ¬ W q := fun q hq k k2 => (hW q hq k2).2 k
  refine ⟨⟨by rw [hF.K c3, c1], by rw [hA c9 c3, c2], hF.lt c3, by rw [hF.R c3 hc, c4], by rw [hF.R c3 hc, c5], by rw [hF.I c3 hc, c6]⟩, ?_⟩
  rcases hb with ⟨b1, b2⟩ | ⟨bl, bs, b0, b1, b2, b3, b4⟩
  · exact Or.inl ⟨b1, by rw [hF.R c3 hc, b2]⟩
  · exact Or.inr ⟨bl, bs, b0, by rw [hF.R c3 hc, b1], b2.to hF hA (fun q hq k => h0 q hq (k.elim id id)), b3, by rw [e70]; exact b4.to hF hA h0⟩
theorem rowcp_l {σ : MS} {k c : Nat} {N : Nat → Nat} (mo b : Int32) (hk : k ≤ 3) (hc : c ≤ 13) (hN : ∀ i, i < k → m_A σ 72 i = nI (N i)) (hNc : ∀ i, i < k → N i < c) : ∃ σ', lp_ (fun a : Int32 × MS => X4_marks_b125 (nI k) mo b a.1 a.2) fu_ (0, σ) = some σ' ∧ Mf [] [53] σ σ' ∧ (∀ i, i < 6 → m_A σ' 53 i = m_A σ 53 i) ∧ ∀ i, i < k → m_A σ' 53 (6 + i) = m_A σ 71 (N i) := by
  obtain ⟨e, m1, m2⟩ := lp_t (body := fun a : Int32 × MS => X4_marks_b125 (nI k) mo b a.1 a.2)
    (I := fun m a => ∃ t, a.1 = nI t ∧ t ≤ k ∧ m = k - t ∧ Mf [] [53] σ a.2 ∧ (∀ i, i < 6 → m_A a.2 53 i = m_A σ 53 i) ∧ ∀ i, i < t → m_A a.2 53 (6 + i) = m_A σ 71 (N i))
    (Q := fun e => Mf [] [53] σ e ∧ (∀ i, i < 6 → m_A e 53 i = m_A σ 53 i) ∧ ∀ i, i < k → m_A e 53 (6 + i) = m_A σ 71 (N i))
    (by
      rintro m ⟨x3, σ1⟩ ⟨t, e1, e2, e3, e4, e5, e6⟩
      simp only at e1 e4 e5 e6 ⊢
      subst e1
      unfold X4_marks_b125
      by_cases ht : t < k
      · have h6 : 6 + nI t = nI (6 + t) := nI_add 6 t
        have hn := hNc t ht
        rw [if_neg (nI_ge ht (by omega)), e_inN (by omega) (by omega), nI_clamp (by omega), e4.A (by decide), hN t ht, e_inN (by omega) (by omega), nI_clamp (by omega), h6, e_inN (by omega) (by omega), nI_clamp (by omega), e4.A (by decide), nI_1]
        refine Or.inl ⟨_, m - 1, by omega, rfl, t + 1, rfl, by omega, by omega, e4.trans (Mf.sA (LI := []) (LA := [53]) (by decide)) (fun _ k => k) (fun _ k => k), fun i hi => ?_, fun i hi => ?_⟩
        · rw [rA_sA, if_neg (by rintro ⟨-, k⟩; omega), e5 i hi]
        · rw [rA_sA]
          by_cases q : i = t
          · rw [if_pos ⟨rfl, by omega⟩, q]
          · rw [if_neg (by rintro ⟨-, k⟩; omega), e6 i (by omega)]
      · rw [if_pos (nI_le (by omega) (by omega))]
        exact Or.inr ⟨_, rfl, e4, e5, fun i hi => e6 i (by omega)⟩)
    fu_ k (0, σ) ⟨0, rfl, by omega, rfl, Mf.rf, fun _ _ => rfl, fun i hi => by omega⟩ (by unfold fu_; omega)
  exact ⟨e, m1, m2⟩
theorem bestcp_l {σ : MS} {k c : Nat} {N : Nat → Nat} (mo b : Int32) (hk : k ≤ 3) (hc : c ≤ 13) (hN : ∀ i, i < k → m_A σ 72 i = nI (N i)) (hNc : ∀ i, i < k → N i < c) : ∃ σ', lp_ (fun a : Int32 × MS => X4_marks_b177 (nI k) mo b a.1 a.2) fu_ (0, σ) = some σ' ∧ Mf [] [70] σ σ' ∧ ∀ i, i < k → m_A σ' 70 i = m_A σ 71 (N i) := by
  obtain ⟨e, m1, m2⟩ := lp_t (body := fun a : Int32 × MS => X4_marks_b177 (nI k) mo b a.1 a.2)
    (I := fun m a => ∃ t, a.1 = nI t ∧ t ≤ k ∧ m = k - t ∧ Mf [] [70] σ a.2 ∧ ∀ i, i < t → m_A a.2 70 i = m_A σ 71 (N i))
    (Q := fun e => Mf [] [70] σ e ∧ ∀ i, i < k → m_A e 70 i = m_A σ 71 (N i))
    (by
      rintro m ⟨x3, σ1⟩ ⟨t, e1, e2, e3, e4, e6⟩
      simp only at e1 e4 e6 ⊢
      subst e1
      unfold X4_marks_b177
      by_cases ht : t < k
      · have hn := hNc t ht
        rw [if_neg (nI_ge ht (by omega)), e_inN (by omega) (by omega), nI_clamp (by omega), e4.A (by decide), hN t ht, e_inN (by omega) (by omega), nI_clamp (by omega), e_inN (by omega) (by omega), e4.A (by decide), nI_1]
        refine Or.inl ⟨_, m - 1, by omega, rfl, t + 1, rfl, by omega, by omega, e4.trans (Mf.sA (LI := []) (LA := [70]) (by decide)) (fun _ k => k) (fun _ k => k), fun i hi => ?_⟩
        rw [rA_sA]
        by_cases q : i = t
        · rw [if_pos ⟨rfl, q⟩, q]
        · rw [if_neg (by rintro ⟨-, k⟩; omega), e6 i (by omega)]
      · rw [if_pos (nI_le (by omega) (by omega))]
        exact Or.inr ⟨_, rfl, e4, fun i hi => e6 i (by omega)⟩)
    fu_ k (0, σ) ⟨0, rfl, by omega, rfl, Mf.rf, fun i hi => by omega⟩ (by unfold fu_; omega)
  exact ⟨e, m1, m2⟩
end
section
/-! LAWS: marks: a leaf (own work) -/
set_option maxRecDepth 100000
theorem leaf_l {g : GS} {ρ : Nat → Nat} {a sc v n kk h T u x sa ra oa lm P k c9 : Nat} {ps zs : List Nat} {N : Nat → Nat} {b mo fr : Int32} {σ : MS} (rec : Nat → Int32 → Int32 → GS → Option ((Unit × GS) × Nat × Nat)) (hG : GC g ρ a sc v n kk h T u x sa ra oa lm P ps k σ) (hK9 : GK g ρ c9 P u k b σ) (hL : LiP g ρ 10 lm zs) (hz : zs.length = k) (hk : k ≤ 3) (hps : ps.length ≤ 13) (hzs : ∀ i y, zs[i]? = some y → ps[N i]? = some y) (hN : ∀ i, i < k → m_A σ 72 i = nI (N i)) (hNc : ∀ i, i < k → N i + (k - i) ≤ ps.length) :
    ∃ g' ρ' dc ds σ' b' fl, X12_go_b rec c9 fr 0 g = some (((), g'), dc, ds) ∧ X4_marks_b117 (nI k) mo b 1 σ = some (.inl (b', fl, σ')) ∧ GC g' ρ' a sc v n kk h T u x sa ra oa lm P ps k σ' ∧ GK g' ρ' c9 P u k b' σ' ∧ LiP g' ρ' 10 lm zs ∧ Fr (fun q => ρ q = 6 ∨ 9 ≤ ρ q) g g' ∧ Ag g ρ ρ' ∧ Mf [] [53, 57, 58, 61, 62, 63, 70, 72] σ σ' ∧ NxP k ps.length N k fl (m_A σ' 72) ∧ (fl = 0 ∨ fl = 1) ∧ 0 ≤ b'.toInt ∧ dc ≤ 2 ∧ ds ≤ 6 := by
  have hNc' : ∀ i, i < k → N i < ps.length := fun i hi => by have := hNc i hi; omega
  obtain ⟨hC, hK, hTn, ⟨x1, x2, x3, ⟨y0, y1, y2, y3, y4, y5⟩, x5⟩, ⟨hs, hT⟩, h4, hR, hP, hE⟩ := hG
  obtain ⟨⟨c1, c2, c3, c4, c5, c6⟩, hb⟩ := hK9
  -- the row
  obtain ⟨σr, r1, r2, r3, r4⟩ := rowcp_l (σ := σ) (k := k) mo b hk hps hN hNc'
  have hvals : ∀ i, i < k → 12 ≤ (m_A σr 53 (6 + i)).toInt ∧ (m_A σr 53 (6 + i)).toInt ≤ 480 := fun i hi => by rw [r4 i hi]; exact hP.2.2.2 _ (hNc' i hi)
  have hIPz : IP g ρ zs (fun i => m_A σ 71 (N i)) := fun i y hy => hP.2.1 (N i) y (hzs i y hy)
  have hS : SetP g ρ 10 x k (m_A σr 53) := ⟨x1, x2, x3, ⟨by rw [r3 0 (by omega), y0], by rw [r3 1 (by omega), y1], by rw [r3 2 (by omega), y2], by rw [r3 3 (by omega), y3], by rw [r3 5 (by omega), y4], by rw [r3 4 (by omega), y5]⟩, lm, zs, x5, hL, hz, hIPz.congr (fun i hi => r4 i (by omega))⟩
  have hRr : RowOK (m_A σr 53) k h := by
    obtain ⟨q0, q1, q2, q3, q4, q5, -⟩ := hR
    exact ⟨by rw [r3 0 (by omega)]; exact q0, by rw [r3 1 (by omega)]; exact q1, by rw [r3 2 (by omega)]; exact q2, by rw [r3 3 (by omega)]; exact q3, by rw [r3 4 (by omega)]; exact q4, by rw [r3 5 (by omega)]; exact q5, hvals⟩
  have hTW : TW g ρ a sc v u x sa ra oa 10 k n kk h σr := by
    refine ⟨hC.to (W := no_) Fr.rf Ag.rf (fun _ _ _ k => k) ⟨rfl, rfl⟩ r2 (by decide) (by decide), hK, ?_, ⟨by omega, by omega⟩, hS, ⟨by rw [r2.I (by decide)]; exact h4, by omega⟩, hRr⟩
    obtain ⟨⟨n1, n1'⟩, ⟨n2, n2'⟩, n3, n3'⟩ := hTn
    exact ⟨⟨by rw [n1, r2.I (by decide)], by rw [r2.I (by decide)]; exact n1'⟩, ⟨by rw [n2, r2.I (by decide)], by rw [r2.I (by decide)]; exact n2'⟩, by rw [n3, r2.I (by decide)], by rw [r2.I (by decide)]; exact n3'⟩
  obtain ⟨w, g1, σ1, f1, f2, f3, f4, f5, f6, f7, f8, f9, f9'⟩ := hTW.rs (T := T) (by rw [r2.Af (by decide)]; exact hs) hT
  obtain ⟨hC1, hK1, hTn1, -, hS1, ⟨hm1, -⟩, hR1⟩ := f5.1
  -- roles of what the run wrote
  have hvw : ρ v = 6 := hC.2.1.2.2.1
  have hwr : ∀ q, tw_ v sa ra oa q → ρ q = 6 ∨ ρ q = 9 := by
    rintro q (rfl | rfl | rfl | rfl)
    · exact Or.inl hvw
    · exact Or.inr hK.2.2.1.1.2.2.1
    · exact Or.inr hK.2.2.1.2.1.2.2.1
    · exact Or.inr hK.2.2.1.2.2.2.2.1
  have hno : ∀ r, r ≠ 6 → r ≠ 9 → ∀ q, ρ q = r → ¬ tw_ v sa ra oa q := fun r a1 a2 q k k2 => by
    rcases hwr q k2 with e | e
    · rw [e] at k; exact a1 k.symm
    · rw [e] at k; exact a2 k.symm
  have hcw : ¬ tw_ v sa ra oa c9 := hno 13 (by decide) (by decide) c9 c2
  have hxw : ¬ tw_ v sa ra oa x := hno 10 (by decide) (by decide) x x2
  have hL1 : LiP g1 ρ 10 lm zs := hL.to f6 Ag.rf (fun q _ k => k.elim (hno 10 (by decide) (by decide) q) (hno 0 (by decide) (by decide) q))
  have hM1 : Mf [] [53, 57, 58, 61, 62, 63, 70, 72] σ σ1 := ((Mf.rf (LI := []) (LA := [53, 57, 58, 61, 62, 63, 70, 72])).trans r2 (fun _ k => k) (by decide)).trans f8 (fun _ k => k) (by decide)
  have hP1 : PlcP g1 ρ P ps σ1 := hP.to f6 Ag.rf (fun q _ k => k.elim (hno 11 (by decide) (by decide) q) (hno 0 (by decide) (by decide) q)) (hM1.I (by decide)) (hM1.Af (by decide))
  have hE1 : EnvP g1 ρ := hE.to f6 Ag.rf (fun q _ k => hno 0 (by decide) (by decide) q k)
  have hc1 : gK g1 c9 = 11 := by rw [f6.K c3, c1]
  have hR0 : RowOK (m_A σ1 53) 0 h := ⟨hR1.1, hR1.2.1, hR1.2.2.1, hR1.2.2.2.1, hR1.2.2.2.2.1, hR1.2.2.2.2.2.1, fun i hi => absurd hi (Nat.not_lt_zero _)⟩
  have hx6 : gR g1 x 6 = lm + 1 := by rw [f6.R x3 hxw, x5]
  have hGC1 : GC g1 ρ a sc v n kk h T u x sa ra oa lm P ps k σ1 := ⟨hC1, hK1, hTn1, ⟨hS1.1, x2, hS1.2.2.1, hS1.2.2.2.1, hx6⟩, ⟨f5.2.2.1, hT⟩, hm1, hR0, hP1, hE1⟩
  have hF1 : Fr (fun q => ρ q = 6 ∨ 9 ≤ ρ q) g g1 := f6.mono (fun q _ k => by
    rcases hwr q k with e | e
    · exact Or.inl e
    · exact Or.inr (by omega))
  -- the numbers afterwards
  have h72 : ∀ i, i < k → m_A σ1 72 i = nI (N i) := fun i hi => by rw [f8.A (by decide), r2.A (by decide), hN i hi]
  have hcomp : X12_go_b rec c9 fr 0 g = if b < w then (al_ (pI g1 c9 3 w) 12 3 fun u74 g75 => wk_ g75 c9 11 <| nn_ (gR g75 c9 1) fun b79 => wk_ g75 b79 10 <| nn_ (gR g75 b79 0) fun b82 => wk_ g75 b82 3 <| nn_ (gR g75 b82 6) fun b85 => ca_ (J2_init_2 u74 b85 g75) fun r89 g88 => wk_ g88 c9 11 <| some (((), pR g88 c9 2 (u74 + 1)), 0, 0)) else some (((), g1), 0, 0) := by
    unfold X12_go_b
    rw [if_pos rfl, e_wk c1, c5, e_nn, e_wk hK.1.1, f1, e_cb, e_wk hK1.1.1, f2, e_ob, e_wk hc1, f6.I c3 hcw, c6]
  have hmod : ∀ σ2 b', X4_marks_j208 (nI k) mo b' σ2 = cb_ (X4_nextNumbers (nI k) σ2) fun r31 σ32 => some (.inl (b', r31, σ32)) := fun σ2 b' => rfl
  have hmod0 : X4_marks_b117 (nI k) mo b 1 σ = if w ≤ b then X4_marks_j208 (nI k) mo b σ1 else (ob_ (lp_ (fun a : Int32 × MS => X4_marks_b177 (nI k) mo w a.1 a.2) fu_ (0, σ1)) fun e37 => X4_marks_j208 (nI k) mo w e37) := by
    unfold X4_marks_b117
    rw [if_neg nn01, r1, e_ob, f4, e_cb]
  have hb1 : b = -1 ∨ 0 ≤ b.toInt := by
    rcases hb with ⟨q, -⟩ | ⟨_, _, q, -⟩
    · exact Or.inl q
    · exact Or.inr q
  by_cases hbw : b < w
  · have hle : ¬ w ≤ b := by rw [i_le]; rw [i_lt] at hbw; omega
    rw [if_pos hbw] at hcomp
    rw [if_neg hle] at hmod0
    obtain ⟨σ2, s1, s2, s3⟩ := bestcp_l (σ := σ1) (k := k) mo w hk hps h72 hNc'
    obtain ⟨fl, σ3, t1, t2, t3, t4⟩ := next_l (σ := σ2) (N := N) hk hps (by rw [s2.I (by decide)]; exact hP1.2.2.1) (fun i hi => by rw [s2.A (by decide), h72 i hi]) hNc
    -- the copy
    obtain ⟨e, he⟩ := hL1
    obtain ⟨g2, hg2⟩ : ∃ g2, g2 = nw_ (pI g1 c9 3 w) 12 3 := ⟨_, rfl⟩
    have z2 : gz g2 = gz g1 + 1 := by rw [hg2]; rfl
    have c3' : c9 < gz g1 := f6.lt c3
    have F2 : Fr (fun q => q = c9) g1 g2 := by rw [hg2]; exact (Fr.pI (W := fun q => q = c9) rfl).trans Fr.nw (fun _ _ k => k)
    have hcz : ¬ c9 = gz g1 := by omega
    have k2 : gK g2 c9 = 11 := by rw [F2.K c3', hc1]
    have ku2 : gK g2 (gz g1) = 12 := by rw [hg2, K_nw, if_pos (show gz g1 = gz (pI g1 c9 3 w) from rfl)]
    have hlz : ¬ gz g1 = lm := by have := he.2.2.1; omega
    have hcr : ∀ r, r ≠ 13 → ∀ q, ρ q = r → ¬ q = c9 := fun r hr q k k2 => by rw [k2, c2] at k; exact hr k.symm
    have he2 : LiPe g2 (nr ρ g1 0) 10 lm e zs := he.to F2 nr_ag (fun q _ k => k.elim (hcr 10 (by decide) q) (hcr 0 (by decide) q))
    obtain ⟨g3, e', v1, v2, v3, v4⟩ := J2_init2_l (r := 0) (u := gz g1) (hE1.1.to F2 (nr_ag (r := 0))) ku2 (nr_ge (Nat.le_refl _)) (by rw [z2]; exact Nat.lt_succ_self _) he2 hlz
    rw [nr_nr F2.z] at v2
    have F3 : Fr (fun q => q = c9) g1 g3 := F2.trans v3 (fun q hq k => by omega)
    have k3 : gK g3 c9 = 11 := by rw [F3.K c3', hc1]
    obtain ⟨g4, hg4⟩ : ∃ g4, g4 = pR g3 c9 2 (gz g1 + 1) := ⟨_, rfl⟩
    have F34 : Fr (fun q => q = c9) g3 g4 := by rw [hg4]; exact Fr.pR rfl
    have F4 : Fr (fun q => q = c9) g1 g4 := F3.trans F34 (fun _ _ k => k)
    have hA4 : Ag g1 ρ (nr ρ g1 0) := nr_ag
    have hl3 : c9 < gz g3 := F3.lt c3'
    have hGC4 : GC g4 (nr ρ g1 0) a sc v n kk h T u x sa ra oa lm P ps k σ3 := hGC1.to F4 hA4 (fun q _ k => by
      rw [k]
      exact ⟨by rw [c2]; decide, fun e => hcr 9 (by decide) u hK.1.2.1 e.symm, fun e => hcr 10 (by decide) x x2 e.symm, by rw [c2]; decide⟩) (((Mf.rf (LI := []) (LA := [70, 72])).trans s2 (fun _ k => k) (by decide)).trans t2 (fun _ k => k) (by decide))
    have rc2 : ∀ i, gR g2 c9 i = gR g c9 i := fun i => by rw [hg2, R_nw, if_neg (show ¬ c9 = gz (pI g1 c9 3 w) from hcz), R_pI, f6.R c3 hcw]
    have rc3 : ∀ i, gR g3 c9 i = gR g c9 i := fun i => by rw [v3.R (by rw [z2]; omega) hcz, rc2]
    have rc4 : ∀ i, i ≠ 2 → gR g4 c9 i = gR g c9 i := fun i hi => by rw [hg4, R_pR, if_neg (by rintro ⟨-, k⟩; exact hi k), rc3]
    have ic4 : gI g4 c9 3 = w := by rw [hg4, I_pR, v3.I (by rw [z2]; omega) hcz, hg2, I_nw, if_neg (show ¬ c9 = gz (pI g1 c9 3 w) from hcz), I_pI, if_pos ⟨rfl, rfl⟩]
    have hbs : LiP g4 (nr ρ g1 0) 0 (gz g1) zs := ⟨e', v2.to F34 Ag.rf (fun q hq k k2 => by rw [k2, nr_lt c3', c2] at k; omega)⟩
    have hIP4 : IP g4 (nr ρ g1 0) zs (m_A σ3 70) := by
      have q1 : IP g1 ρ zs (fun i => m_A σ 71 (N i)) := hIPz.to f6 Ag.rf (fun q _ k => hno 0 (by decide) (by decide) q k)
      refine (q1.to F4 hA4 (fun q _ k => hcr 0 (by decide) q k)).congr (fun i hi => ?_)
      rw [t2.A (by decide), s3 i (by omega), hM1.A (by decide)]
    have hGK4 : GK g4 (nr ρ g1 0) c9 P u k w σ3 := ⟨⟨by rw [F4.K c3', hc1], by rw [nr_lt c3', c2], F4.lt c3', by rw [rc4 0 (by decide), c4], by rw [rc4 1 (by decide), c5], ic4⟩, Or.inr ⟨gz g1, zs, f9, by rw [hg4, R_pR, if_pos ⟨rfl, rfl⟩], hbs, hz, hIP4⟩⟩
    have hL4 : LiP g4 (nr ρ g1 0) 10 lm zs := ⟨e, he.to F4 hA4 (fun q _ k => k.elim (hcr 10 (by decide) q) (hcr 0 (by decide) q))⟩
    have hFr4 : Fr (fun q => ρ q = 6 ∨ 9 ≤ ρ q) g g4 := hF1.trans F4 (fun q _ k => Or.inr (by rw [k, c2]; decide))
    have hM3 : Mf [] [53, 57, 58, 61, 62, 63, 70, 72] σ σ3 := (hM1.trans s2 (fun _ k => k) (by decide)).trans t2 (fun _ k => k) (by decide)
    refine ⟨g4, nr ρ g1 0, 0 + 1 + 1, 0 + zs.length + 3, σ3, w, fl, ?_, ?_, hGC4, hGK4, hL4, hFr4, Ag.rf.trans nr_ag f6.z, hM3, t3, t4, f9, by omega, by omega⟩
    · have hu9 : gR g2 u 0 = x + 1 := by
        have hur : ¬ u = c9 := fun e => hcr 9 (by decide) u hK.1.2.1 e
        rw [F2.R hK1.1.2.2 hur, hK1.2.1.1]
      have kx2 : gK g2 x = 3 := by rw [F2.K hS1.2.2.1, hS1.1]
      have rx2 : gR g2 x 6 = lm + 1 := by rw [F2.R hS1.2.2.1 (fun e => hcr 10 (by decide) x x2 e), hx6]
      have kuu : gK g2 u = 10 := by rw [F2.K hK1.1.2.2, hK1.1.1]
      have hzz : gz (pI g1 c9 3 w) = gz g1 := rfl
      rw [hcomp, e_al, ← hg2, hzz, e_wk k2, rc2 1, c5, e_nn, e_wk kuu, hu9, e_nn, e_wk kx2, rx2, e_nn, v1, e_ca, e_wk k3, ← hg4, e_bp, e_bp]
    · rw [hmod0, s1, e_ob, hmod, t1, e_cb]
  · have hle : w ≤ b := by rw [i_le]; rw [i_lt] at hbw; omega
    rw [if_neg hbw] at hcomp
    rw [if_pos hle] at hmod0
    obtain ⟨fl, σ3, t1, t2, t3, t4⟩ := next_l (σ := σ1) (N := N) hk hps hP1.2.2.1 h72 hNc
    have hb0 : 0 ≤ b.toInt := by rw [i_le] at hle; omega
    have hGC3 : GC g1 ρ a sc v n kk h T u x sa ra oa lm P ps k σ3 := hGC1.to (W := no_) Fr.rf Ag.rf (fun _ _ k => k.elim) ((Mf.rf (LI := []) (LA := [70, 72])).trans t2 (fun _ k => k) (by decide))
    have hGK3 : GK g1 ρ c9 P u k b σ3 := GK.to (σ := σ) ⟨⟨c1, c2, c3, c4, c5, c6⟩, hb⟩ f6 Ag.rf (fun q _ k => by
      rcases hwr q k with e | e
      · exact ⟨by rw [e]; decide, by rw [e]; decide⟩
      · exact ⟨by rw [e]; decide, by rw [e]; decide⟩) (by rw [t2.Af (by decide), f8.Af (by decide), r2.Af (by decide)])
    refine ⟨g1, ρ, 0, 0, σ3, b, fl, hcomp, ?_, hGC3, hGK3, hL1, hF1, Ag.rf, hM1.trans t2 (fun _ k => k) (by decide), t3, t4, hb0, by omega, by omega⟩
    rw [hmod0, hmod, t1, e_cb]
end
section
/-! LAWS: marks: all choices (own work) -/
set_option maxRecDepth 100000
theorem la_step {α ε : Type} {body : α → Option ((α ⊕ ε) × Nat × Nat)} {a b : α} {c d : Nat} (h : body a = some (.inl b, c, d)) (n : Nat) : la_ body (n + 1) a = bp_ c d (la_ body n b) := by
  rw [la_, h]
def gc_ : Nat → Nat
  | 0 => 2
  | l + 1 => 13 * (1 + gc_ l)
def gs_ : Nat → Nat
  | 0 => 6
  | l + 1 => 13 * (16 + gs_ l)
theorem eraseLast {xs : List Nat} {x : Nat} : (xs ++ [x]).eraseIdx xs.length = xs := by
  induction xs with
  | nil => rfl
  | cons y ys ih => simp [ih]
theorem go_l {a sc v n kk h T u x sa ra oa lm P k c9 : Nat} {ps : List Nat} {mo : Int32} (hk : k ≤ 3) (hps : ps.length ≤ 13) : ∀ l j nf, j + l = k → l < nf → ∀ (fr : Nat) (N : Nat → Nat) (zs : List Nat) (g : GS) (ρ : Nat → Nat) (b : Int32) (σ : MS), fr + l ≤ ps.length → GC g ρ a sc v n kk h T u x sa ra oa lm P ps k σ → GK g ρ c9 P u k b σ → LiP g ρ 10 lm zs → zs.length = j → (∀ i y, zs[i]? = some y → ps[N i]? = some y) → (∀ i, i < j → m_A σ 72 i = nI (N i)) → (∀ i, i < j → N i + (k - i) ≤ ps.length) → (∀ t, t < l → m_A σ 72 (j + t) = nI (fr + t)) →
    ∃ g' ρ' dc ds σ' b' fl i, X12_go_r nf c9 (nI fr) (nI l) g = some (((), g'), dc, ds) ∧ LS_ (fun a : Int32 × Int32 × MS => X4_marks_b117 (nI k) mo a.1 a.2.1 a.2.2) i (b, 1, σ) (b', fl, σ') ∧ i ≤ 13 ^ l ∧ GC g' ρ' a sc v n kk h T u x sa ra oa lm P ps k σ' ∧ GK g' ρ' c9 P u k b' σ' ∧ LiP g' ρ' 10 lm zs ∧ Fr (fun q => ρ q = 6 ∨ 9 ≤ ρ q) g g' ∧ Ag g ρ ρ' ∧ Mf [] [53, 57, 58, 61, 62, 63, 70, 72] σ σ' ∧ NxP k ps.length N j fl (m_A σ' 72) ∧ (fl = 0 ∨ fl = 1) ∧ 0 ≤ b'.toInt ∧ dc ≤ gc_ l ∧ ds ≤ gs_ l := by
  intro l
  induction l with
  | zero =>
    intro j nf hj hnf fr N zs g ρ b σ hfr hG hK hL hz hzs hN hNc hT
    obtain rfl : j = k := by omega
    obtain ⟨f, rfl⟩ : ∃ f, nf = f + 1 := ⟨nf - 1, by omega⟩
    obtain ⟨g', ρ', dc, ds, σ', b', fl, r1, r2, r3, r4, r5, r6, r7, r8, r9, r10, r11, r12, r13⟩ := leaf_l (mo := mo) (fr := nI fr) (X12_go_r f) hG hK hL hz hk hps hzs hN hNc
    exact ⟨g', ρ', dc, ds, σ', b', fl, 1, r1, LS_.one r2, by omega, r3, r4, r5, r6, r7, r8, r9, r10, r11, r12, r13⟩
  | succ l ihl =>
    intro j nf hj hnf fr N zs g ρ b σ hfr hG hK hL hz hzs hN hNc hT
    obtain ⟨nf', rfl⟩ : ∃ f, nf = f + 1 := ⟨nf - 1, by omega⟩
    have step : ∀ i, i + (l + 1) ≤ ps.length → ∀ (g : GS) (ρ : Nat → Nat) (b : Int32) (σ : MS), GC g ρ a sc v n kk h T u x sa ra oa lm P ps k σ → GK g ρ c9 P u k b σ → LiP g ρ 10 lm zs → (∀ i, i < j → m_A σ 72 i = nI (N i)) → (∀ t, t < l + 1 → m_A σ 72 (j + t) = nI (i + t)) →
        ∃ g' ρ' dc ds σ' b' fl s, X12_go_b53 (X12_go_r nf') c9 (nI (l + 1)) (nI i) g = some (.inl (nI (i + 1), g'), dc, ds) ∧ LS_ (fun a : Int32 × Int32 × MS => X4_marks_b117 (nI k) mo a.1 a.2.1 a.2.2) s (b, 1, σ) (b', fl, σ') ∧ s ≤ 13 ^ l ∧ GC g' ρ' a sc v n kk h T u x sa ra oa lm P ps k σ' ∧ GK g' ρ' c9 P u k b' σ' ∧ LiP g' ρ' 10 lm zs ∧ Fr (fun q => ρ q = 6 ∨ 9 ≤ ρ q) g g' ∧ Ag g ρ ρ' ∧ Mf [] [53, 57, 58, 61, 62, 63, 70, 72] σ σ' ∧ NxP k ps.length (fun q => if q = j then i else N q) (j + 1) fl (m_A σ' 72) ∧ (fl = 0 ∨ fl = 1) ∧ 0 ≤ b'.toInt ∧ dc ≤ 1 + gc_ l ∧ ds ≤ 16 + gs_ l := by
      intro i hi g ρ b σ hG hK hL hN hT
      obtain ⟨hC, hTk, hTn, ⟨x1, x2, x3, x4, x5⟩, hs, h4, hR, hP, hE⟩ := id hG
      obtain ⟨⟨c1, c2, c3, c4, c5, c6⟩, hb⟩ := id hK
      obtain ⟨y, hy⟩ := get_ex (xs := ps) (k := i) (by omega)
      obtain ⟨q1, q2, q3, q4⟩ := hP.2.1 i y hy
      obtain ⟨e, he⟩ := hL
      obtain ⟨g1, e', dc1, ds1, d1, d2, d3, d4, d5, d6, d7, d8, d9⟩ := J2_add_l he (x := y) (by obtain ⟨⟨d, hd, -⟩, -⟩ := hE.1; exact ⟨d, hd⟩) (by omega) q3 (by rw [q1]; rfl)
      have hW1 : ∀ q, q < gz g → (q = lm ∨ (q = e ∧ gK g e = 103)) → ρ q = 10 ∧ ¬ q = u ∧ ¬ q = x := fun q _ k => by
        have hr : ρ q = 10 := by
          rcases k with k | ⟨k, k2⟩
          · rw [k]; exact he.2.1
          · rw [k]
            rcases he.2.2.2.2.2.2.1 with ⟨-, q2⟩ | ⟨q2, -⟩
            · exact q2
            · rw [q2] at k2; cases k2
        refine ⟨hr, fun e2 => ?_, fun e2 => ?_⟩
        · have := hTk.1.2.1
          rw [← e2, hr] at this
          cases this
        · rcases k with k | ⟨k, k2⟩
          · have := he.1
            rw [← k, e2, x1] at this
            cases this
          · rw [← k, e2, x1] at k2
            cases k2
      have hG1 : GC g1 (nr ρ g 10) a sc v n kk h T u x sa ra oa lm P ps k σ := hG.to d3 nr_ag (fun q hq k => by
        obtain ⟨w1, w2, w3⟩ := hW1 q hq k
        exact ⟨by rw [w1]; decide, w2, w3, by rw [w1]; decide⟩) Mf.rf
      have hK1 : GK g1 (nr ρ g 10) c9 P u k b σ := hK.to d3 nr_ag (fun q hq k => by
        obtain ⟨w1, -, -⟩ := hW1 q hq k
        exact ⟨by rw [w1]; decide, by rw [w1]; decide⟩) rfl
      have F1 : Fr (fun q => ρ q = 6 ∨ 9 ≤ ρ q) g g1 := d3.mono (fun q hq k => Or.inr (by rw [(hW1 q hq k).1]; decide))
      obtain ⟨g2, ρ2, dc2, ds2, σ2, b2, fl, s, r1, r2, r3, r4, r5, r6, r7, r8, r9, r10, r11, r12, r13, r14⟩ := ihl (j + 1) nf' (by omega) (by omega) (i + 1) (fun q => if q = j then i else N q) (zs ++ [y]) g1 (nr ρ g 10) b σ (by omega) hG1 hK1 ⟨e', d2⟩ (by rw [len_snoc, hz]) (fun i' y' hy' => by
        rcases get_snoc hy' with ⟨p1, p2⟩ | ⟨p1, p2⟩
        · rw [if_neg (by omega)]; exact hzs i' y' p2
        · rw [if_pos (by omega), p2]; exact hy) (fun i' hi' => by
        by_cases e1 : i' = j
        · rw [if_pos e1, e1]; exact hT 0 (Nat.succ_pos _)
        · rw [if_neg e1]; exact hN i' (by omega)) (fun i' hi' => by
        by_cases e1 : i' = j
        · rw [if_pos e1]; omega
        · rw [if_neg e1]; exact hNc i' (by omega)) (fun t ht => by
        have := hT (t + 1) (by omega)
        rw [show j + 1 + t = j + (t + 1) by omega, this, show i + (t + 1) = i + 1 + t by omega])
      obtain ⟨hC2, hTk2, -, ⟨x21, x22, x23, x24, x25⟩, -⟩ := id r4
      obtain ⟨⟨c21, c22, c23, c24, c25, c26⟩, -⟩ := id r5
      obtain ⟨e2, he2⟩ := r6
      have hyj : (zs ++ [y])[j]? = some y := by rw [← hz]; exact get_snoc'
      obtain ⟨g3, t1, t2, t3, t4, t5, t6⟩ := J2_remove_l he2 hyj
      have her : (zs ++ [y]).eraseIdx j = zs := by rw [← hz]; exact eraseLast
      rw [her] at t2
      have hW3 : ∀ q, q < gz g2 → (q = lm ∨ q = e2) → ρ2 q = 10 ∧ ¬ q = u ∧ ¬ q = x := fun q _ k => by
        have hr : ρ2 q = 10 := by
          rcases k with k | k
          · rw [k]; exact he2.2.1
          · rw [k]; exact t5
        refine ⟨hr, fun e3 => ?_, fun e3 => ?_⟩
        · have := hTk2.1.2.1
          rw [← e3, hr] at this
          cases this
        · rcases k with k | k
          · have := he2.1
            rw [← k, e3, x21] at this
            cases this
          · rw [← k, e3, x21] at t4
            cases t4
      have hG3 : GC g3 ρ2 a sc v n kk h T u x sa ra oa lm P ps k σ2 := r4.to t3 Ag.rf (fun q hq k => by
        obtain ⟨w1, w2, w3⟩ := hW3 q hq k
        exact ⟨by rw [w1]; decide, w2, w3, by rw [w1]; decide⟩) Mf.rf
      have hK3 : GK g3 ρ2 c9 P u k b2 σ2 := r5.to t3 Ag.rf (fun q hq k => by
        obtain ⟨w1, -, -⟩ := hW3 q hq k
        exact ⟨by rw [w1]; decide, by rw [w1]; decide⟩) rfl
      have hA1 : Ag g ρ (nr ρ g 10) := nr_ag
      have F2 : Fr (fun q => ρ q = 6 ∨ 9 ≤ ρ q) g g2 := F1.trans r7 (fun q hq k => by rw [hA1 q hq] at k; exact k)
      have hA2 : Ag g ρ ρ2 := hA1.trans r8 F1.z
      have F3 : Fr (fun q => ρ q = 6 ∨ 9 ≤ ρ q) g g3 := F2.trans t3 (fun q hq k => by
        have := (hW3 q (F2.lt hq) k).1
        rw [hA2 q hq] at this
        exact Or.inr (by rw [this]; decide))
      have hlz : zs.length ≤ 2 := by omega
      refine ⟨g3, ρ2, 0 + dc2 + dc1, 0 + ds2 + ds1, σ2, b2, fl, s, ?_, r2, r3, hG3, hK3, ⟨e2, t2⟩, F3, hA2, r9, r10, r11, r12, by omega, by omega⟩
      unfold X12_go_b53
      rw [e_wk c1, c4, e_nn, e_wk hP.1.K, J2_size_l hP.1, e_ob, nI_add, if_neg (nI_nlt hi (by omega)), c5, e_nn, e_wk hTk.1.1, hTk.2.1.1, e_nn, e_wk x1, x5, e_nn, e_nn, e_wk hP.1.K, J2_get_l hP.1 hy, e_ob, e_rk q1, e_wk he.1, d1, e_ca, e_wk hK1.1.1, nI_1, nI_p, r1, e_ca, e_wk c21, c25, e_nn, e_wk hTk2.1.1, hTk2.2.1.1, e_nn, e_wk x21, x25, e_nn, e_nn, e_wk hTk2.1.1, hTk2.2.1.1, e_nn, e_wk x21, x25, e_nn, e_wk he2.1, J2_size_l ⟨e2, he2⟩, e_ob, len_snoc, hz, nI_p, e_wk he2.1, t1, e_cb, e_bp, e_bp]
    have inner : ∀ d i, i + (l + 1) + d = ps.length → ∀ (g : GS) (ρ : Nat → Nat) (b : Int32) (σ : MS), GC g ρ a sc v n kk h T u x sa ra oa lm P ps k σ → GK g ρ c9 P u k b σ → LiP g ρ 10 lm zs → (∀ i, i < j → m_A σ 72 i = nI (N i)) → (∀ t, t < l + 1 → m_A σ 72 (j + t) = nI (i + t)) → ∀ f, d + 1 < f →
        ∃ g' ρ' dc ds σ' b' fl s, la_ (fun a : Int32 × GS => X12_go_b53 (X12_go_r nf') c9 (nI (l + 1)) a.1 a.2) f (nI i, g) = some (g', dc, ds) ∧ LS_ (fun a : Int32 × Int32 × MS => X4_marks_b117 (nI k) mo a.1 a.2.1 a.2.2) s (b, 1, σ) (b', fl, σ') ∧ s ≤ (d + 1) * 13 ^ l ∧ GC g' ρ' a sc v n kk h T u x sa ra oa lm P ps k σ' ∧ GK g' ρ' c9 P u k b' σ' ∧ LiP g' ρ' 10 lm zs ∧ Fr (fun q => ρ q = 6 ∨ 9 ≤ ρ q) g g' ∧ Ag g ρ ρ' ∧ Mf [] [53, 57, 58, 61, 62, 63, 70, 72] σ σ' ∧ NxP k ps.length N j fl (m_A σ' 72) ∧ (fl = 0 ∨ fl = 1) ∧ 0 ≤ b'.toInt ∧ dc ≤ (d + 1) * (1 + gc_ l) ∧ ds ≤ (d + 1) * (16 + gs_ l) := by
      intro d
      induction d with
      | zero =>
        intro i hi g ρ b σ hG hK hL hN hT f hf
        obtain ⟨f', rfl⟩ : ∃ f', f = f' + 1 + 1 := ⟨f - 2, by omega⟩
        obtain ⟨g', ρ', dc, ds, σ', b', fl, s, r1, r2, r3, r4, r5, r6, r7, r8, r9, r10, r11, r12, r13, r14⟩ := step i (by omega) g ρ b σ hG hK hL hN hT
        unfold NxP at r10
        rw [if_pos rfl, if_neg (by omega)] at r10
        have hend : X12_go_b53 (X12_go_r nf') c9 (nI (l + 1)) (nI (i + 1)) g' = some (.inr g', 0, 0) := by
          obtain ⟨-, -, -, -, -, -, -, hP, -⟩ := r4
          unfold X12_go_b53
          rw [e_wk r5.1.1, r5.1.2.2.2.1, e_nn, e_wk hP.1.K, J2_size_l hP.1, e_ob, nI_add, if_pos (nI_lt (by omega) (by omega))]
        refine ⟨g', ρ', 0 + dc, 0 + ds, σ', b', fl, s, ?_, r2, by omega, r4, r5, r6, r7, r8, r9, NxP.congr j (fun q hq => by rw [if_neg (by omega)]) r10, r11, r12, by omega, by omega⟩
        rw [la_step (b := (nI (i + 1), g')) r1, la_end (e := g') hend, e_bp]
      | succ d ihd =>
        intro i hi g ρ b σ hG hK hL hN hT f hf
        obtain ⟨f', rfl⟩ : ∃ f', f = f' + 1 := ⟨f - 1, by omega⟩
        obtain ⟨g1, ρ1, dc1, ds1, σ1, b1, fl1, s1, r1, r2, r3, r4, r5, r6, r7, r8, r9, r10, r11, r12, r13, r14⟩ := step i (by omega) g ρ b σ hG hK hL hN hT
        unfold NxP at r10
        rw [if_pos rfl, if_pos (by omega)] at r10
        obtain ⟨rfl, n1, n2⟩ := r10
        obtain ⟨g2, ρ2, dc2, ds2, σ2, b2, fl2, s2, t1, t2, t3, t4, t5, t6, t7, t8, t9, t10, t11, t12, t13, t14⟩ := ihd (i + 1) (by omega) g1 ρ1 b1 σ1 r4 r5 r6 (fun q hq => by rw [n1 q hq, if_neg (by omega)]) (fun t ht => n2 t (by omega)) f' (by omega)
        have hs : s1 + s2 ≤ (d + 1 + 1) * 13 ^ l := by rw [Nat.succ_mul (d + 1)]; omega
        have hdc : dc2 + dc1 ≤ (d + 1 + 1) * (1 + gc_ l) := by rw [Nat.succ_mul (d + 1)]; omega
        have hds : ds2 + ds1 ≤ (d + 1 + 1) * (16 + gs_ l) := by rw [Nat.succ_mul (d + 1)]; omega
        refine ⟨g2, ρ2, dc2 + dc1, ds2 + ds1, σ2, b2, fl2, s1 + s2, ?_, r2.trans t2, hs, t4, t5, t6, r7.trans t7 (fun q hq k => by rw [r8 q hq] at k; exact k), r8.trans t8 r7.z, r9.trans t9 (fun _ k => k) (fun _ k => k), t10, t11, t12, hdc, hds⟩
        rw [la_step (b := (nI (i + 1), g1)) r1, t1, e_bp]
    obtain ⟨g', ρ', dc, ds, σ', b', fl, s, r1, r2, r3, r4, r5, r6, r7, r8, r9, r10, r11, r12, r13, r14⟩ := inner (ps.length - (fr + (l + 1))) fr (by omega) g ρ b σ hG hK hL hN hT fu_ (by unfold fu_; omega)
    have hd : ps.length - (fr + (l + 1)) + 1 ≤ 13 := by omega
    refine ⟨g', ρ', dc, ds, σ', b', fl, s, ?_, r2, ?_, r4, r5, r6, r7, r8, r9, r10, r11, r12, ?_, ?_⟩
    · show X12_go_b (X12_go_r nf') c9 (nI fr) (nI (l + 1)) g = _
      unfold X12_go_b
      rw [if_neg (nI_ne0 (by omega) (by omega)), r1, e_oa, e_b0]
    · rw [Nat.pow_succ, Nat.mul_comm]
      exact Nat.le_trans r3 (Nat.mul_le_mul_right _ hd)
    · exact Nat.le_trans r13 (Nat.mul_le_mul_right _ hd)
    · exact Nat.le_trans r14 (Nat.mul_le_mul_right _ hd)
end
section
/-! LAWS: marks (own work) -/
set_option maxRecDepth 100000
theorem nums_l {σ : MS} {k : Nat} (mo : Int32) (hk : k ≤ 3) : ∃ σ', lp_ (fun a : Int32 × MS => X4_marks_b94 (nI k) mo a.1 a.2) fu_ (0, σ) = some σ' ∧ Mf [] [72] σ σ' ∧ ∀ i, i < k → m_A σ' 72 i = nI i := by
  obtain ⟨e, m1, m2⟩ := lp_t (body := fun a : Int32 × MS => X4_marks_b94 (nI k) mo a.1 a.2)
    (I := fun m a => ∃ t, a.1 = nI t ∧ t ≤ k ∧ m = k - t ∧ Mf [] [72] σ a.2 ∧ ∀ i, i < t → m_A a.2 72 i = nI i)
    (Q := fun e => Mf [] [72] σ e ∧ ∀ i, i < k → m_A e 72 i = nI i)
    (by
      rintro m ⟨x3, σ1⟩ ⟨t, e1, e2, e3, e4, e6⟩
      simp only at e1 e4 e6 ⊢
      subst e1
      unfold X4_marks_b94
      by_cases ht : t < k
      · rw [if_neg (nI_ge ht (by omega)), e_inN (by omega) (by omega), nI_clamp (by omega), nI_1]
        refine Or.inl ⟨_, m - 1, by omega, rfl, t + 1, rfl, by omega, by omega, e4.trans (Mf.sA (LI := []) (LA := [72]) (by decide)) (fun _ k => k) (fun _ k => k), fun i hi => ?_⟩
        rw [rA_sA]
        by_cases q : i = t
        · rw [if_pos ⟨rfl, q⟩, q]
        · rw [if_neg (by rintro ⟨-, k⟩; omega), e6 i (by omega)]
      · rw [if_pos (nI_le (by omega) (by omega))]
        exact Or.inr ⟨_, rfl, e4, fun i hi => e6 i (by omega)⟩)
    fu_ k (0, σ) ⟨0, rfl, by omega, rfl, Mf.rf, fun i hi => by omega⟩ (by unfold fu_; omega)
  exact ⟨e, m1, m2⟩
/-- Chalks is made -/
theorem chalks_l {a o sc v n kk h x m T : Nat} {g : GS} {ρ : Nat → Nat} {σ : MS} (x1 : Int32) (hp : RelP a o sc v n kk h x m T g ρ σ) :
    ∃ g7 ρ7 dc ds σ1 σ2 ps P u x' sa ra oa lm zs, X12_init (gz g) a (nw_ g 11 5) = some (((), g7), dc, ds) ∧ X4_addsSpot (m_I σ 1) (s_I σ 69 0) = some σ1 ∧ lp_ (fun a : Int32 × MS => X4_marks_b36 x1 a.1 a.2) fu_ (0, σ1) = some σ2 ∧ Mf [69] [71] σ σ2 ∧ ps.length ≤ 13 ∧ TW g7 ρ7 a sc v u x' sa ra oa 10 m n kk h σ2 ∧ gR g7 x' 6 = lm + 1 ∧ LiP g7 ρ7 10 lm zs ∧ PlcP g7 ρ7 P ps σ2 ∧ EnvP g7 ρ7 ∧ (∀ k', GK g7 ρ7 (gz g) P u k' (-1) σ2) ∧ Fr (fun q => 9 ≤ ρ q) g g7 ∧ Ag g ρ ρ7 ∧ dc ≤ 120 ∧ ds ≤ 3200 := by
  have ha := hp.1.1.1
  have hE := hp.2.2.2.2.2.2.2.2.2.2.1
  have hSc := hp.1.1.2.2.2
  obtain ⟨g1, hg1⟩ : ∃ g1, g1 = pR (nw_ g 11 5) (gz g) 4 (a + 1) := ⟨_, rfl⟩
  have F1 : Fr no_ g g1 := by rw [hg1]; exact (Fr.nw (W := no_)).trans (Fr.pR (W := fun q => q = gz g) rfl) (fun q hq k => by omega)
  have z1 : gz g1 = gz g + 1 := by rw [hg1]; rfl
  have hA1 : Ag g ρ (nr ρ g 13) := nr_ag
  have hE1 : EnvP g1 (nr ρ g 13) := hE.to F1 hA1 (fun _ _ _ k => k)
  have hS1 : ScP g1 (nr ρ g 13) sc n kk h σ := hSc.to (LI := []) (LA := []) F1 (fun q hq k => by rw [hA1 q hq, k]) (fun _ _ _ k => k) Mf.rf (by decide) (by decide)
  obtain ⟨g2, ρ2, dc1, ds1, σ1, σ2, ps, b1, b2, b3, b4, b5, b6, b7, b8, b9, b10, b11⟩ := places_l x1 hS1 hE1
  have hc9 : nr ρ g 13 (gz g) = 13 := nr_ge (Nat.le_refl _)
  have lc1 : gz g < gz g1 := by rw [z1]; exact Nat.lt_succ_self _
  have hc9w : ¬ nr ρ g 13 (gz g) = 11 := by rw [hc9]; decide
  obtain ⟨g3, hg3⟩ : ∃ g3, g3 = pR g2 (gz g) 0 (gz g1 + 1) := ⟨_, rfl⟩
  have F23 : Fr (fun q => q = gz g) g2 g3 := by rw [hg3]; exact Fr.pR rfl
  have lc2 : gz g < gz g2 := b4.lt lc1
  have hr2 : ρ2 (gz g) = 13 := by rw [b5 _ lc1, hc9]
  have F3 : Fr (fun q => 9 ≤ ρ q) g g3 := ((F1.mono (fun _ _ k => k.elim)).trans b4 (fun q hq k => by rw [nr_lt hq] at k; rw [k]; decide)).trans F23 (fun q hq k => by omega)
  have hA3 : Ag g ρ ρ2 := hA1.trans b5 F1.z
  have ha9 : ¬ 9 ≤ ρ a := by rw [ha.2.1]; decide
  have hp3 : RelP a o sc v n kk h x m T g3 ρ2 σ2 := hp.to F3 hA3 (fun q _ k => Or.inr (Or.inr k)) (fun i => F3.R ha.2.2.1 ha9 i) (fun i _ => F3.I ha.2.2.1 ha9 i) (b8.eq (by decide) (by decide))
  have hP3 : PlcP g3 ρ2 (gz g1) ps σ2 := b6.to F23 Ag.rf (fun q _ k k2 => by rw [k2, hr2] at k; omega) rfl rfl
  obtain ⟨g4, g5, ρ5, dc2, ds2, t1, t2, t3, t4, t5, t6, t7, t8, t9, t10⟩ := newtakec hp3
  obtain ⟨g6, hg6⟩ : ∃ g6, g6 = pI (pR g5 (gz g) 1 (gz g3 + 1)) (gz g) 3 (-1) := ⟨_, rfl⟩
  have F56 : Fr (fun q => q = gz g) g5 g6 := by rw [hg6]; exact (Fr.pR (W := fun q => q = gz g) rfl).trans (Fr.pI (W := fun q => q = gz g) rfl) (fun _ _ k => k)
  have lc3 : gz g < gz g3 := F23.lt lc2
  have lc5 : gz g < gz g5 := t5.lt lc3
  have hr5 : ρ5 (gz g) = 13 := by rw [t6 _ lc3, hr2]
  have hcr : ∀ r, r ≠ 13 → ∀ q, ρ5 q = r → ¬ q = gz g := fun r hr q k k2 => by rw [k2, hr5] at k; exact hr k.symm
  obtain ⟨hC, hK, hTn, hrr, hS, hm, hR⟩ := id t3
  have hur : ρ5 (gz g3) = 9 := hK.1.2.1
  have huc : ¬ gz g3 = gz g := hcr 9 (by decide) _ hur
  have hxc : ¬ gz g3 + 1 = gz g := hcr 10 (by decide) _ hS.2.1
  have hT6 : TW g6 ρ5 a sc v (gz g3) (gz g3 + 1) (gz g4) (gz g4 + 1) (gz g4 + 2) 10 m n kk h σ2 := by
    refine ⟨hC.to F56 Ag.rf (fun q _ k => hcr 0 (by decide) q k) ⟨F56.R hC.1.2.2.1 (hcr 1 (by decide) a hC.1.2.1) 0, F56.R hC.1.2.2.1 (hcr 1 (by decide) a hC.1.2.1) 2⟩ (LI := []) (LA := []) Mf.rf (by decide) (by decide), hK.to F56 Ag.rf (fun i => F56.R hK.1.2.2 huc i), ?_, hrr, hS.to F56 Ag.rf (fun q _ k => k.elim (hcr 10 (by decide) q) (hcr 0 (by decide) q)), hm, hR⟩
    obtain ⟨⟨n1, n1'⟩, ⟨n2, n2'⟩, n3, n3'⟩ := hTn
    exact ⟨⟨by rw [F56.I hK.1.2.2 huc, n1], n1'⟩, ⟨by rw [F56.I hK.1.2.2 huc, n2], n2'⟩, by rw [F56.I hK.1.2.2 huc, n3], n3'⟩
  obtain ⟨-, -, xlt, -, lm, zs, l1, l2, l3, l4⟩ := id hT6.2.2.2.2.1
  have F36 : Fr (fun q => q = gz g) g3 g6 := (t5.mono (fun _ _ k => k.elim)).trans F56 (fun _ _ k => k)
  have hE3 : EnvP g3 ρ2 := hp3.2.2.2.2.2.2.2.2.2.2.1
  have hcr2 : ∀ r, r ≠ 13 → ∀ q, ρ2 q = r → ¬ q = gz g := fun r hr q k k2 => by rw [k2, hr2] at k; exact hr k.symm
  have k1 : gK g1 (gz g) = 11 := by rw [hg1, K_pR, K_nw, if_pos rfl]
  have k2 : gK g2 (gz g) = 11 := by rw [b4.K lc1, k1]
  have k3 : gK g3 (gz g) = 11 := by rw [F23.K lc2, k2]
  have k5 : gK g5 (gz g) = 11 := by rw [t5.K lc3, k3]
  have r1 : ∀ i, gR g1 (gz g) i = if i = 4 then a + 1 else 0 := fun i => by
    rw [hg1, R_pR, R_nw, if_pos rfl]
    by_cases q : i = 4
    · rw [if_pos ⟨rfl, q⟩, if_pos q]
    · rw [if_neg (by rintro ⟨-, k⟩; exact q k), if_neg q]
  have r2 : ∀ i, gR g2 (gz g) i = if i = 4 then a + 1 else 0 := fun i => by rw [b4.R lc1 hc9w, r1]
  have r3 : ∀ i, gR g3 (gz g) i = if i = 0 then gz g1 + 1 else if i = 4 then a + 1 else 0 := fun i => by
    rw [hg3, R_pR, r2]
    by_cases q : i = 0
    · rw [if_pos ⟨rfl, q⟩, if_pos q]
    · rw [if_neg (by rintro ⟨-, k⟩; exact q k), if_neg q]
  have r6 : ∀ i, gR g6 (gz g) i = if i = 1 then gz g3 + 1 else if i = 0 then gz g1 + 1 else if i = 4 then a + 1 else 0 := fun i => by
    rw [hg6, R_pI, R_pR, t5.R lc3 (fun k => k), r3]
    by_cases q : i = 1
    · rw [if_pos ⟨rfl, q⟩, if_pos q]
    · rw [if_neg (by rintro ⟨-, k⟩; exact q k), if_neg q]
  have hGK : ∀ k', GK g6 ρ5 (gz g) (gz g1) (gz g3) k' (-1) σ2 := by
    intro k'
    refine ⟨⟨by rw [F36.K lc3, k3], hr5, F56.lt lc5, ?_, ?_, ?_⟩, Or.inl ⟨rfl, ?_⟩⟩
    · rw [r6, if_neg (by decide), if_pos rfl]
    · rw [r6, if_pos rfl]
    · rw [hg6, I_pI, if_pos ⟨rfl, rfl⟩]
    · rw [r6, if_neg (by decide), if_neg (by decide), if_neg (by decide)]
  refine ⟨g6, ρ5, 0 + 3 + dc2 + 1 + dc1, 0 + 1803 + ds2 + 8 + ds1, σ1, σ2, ps, gz g1, gz g3, gz g3 + 1, gz g4, gz g4 + 1, gz g4 + 2, lm, zs, ?_, b2, b3, b8, b7, hT6, l1, l2, hP3.to F36 t6 (fun q _ k => k.elim (hcr2 11 (by decide) q) (hcr2 0 (by decide) q)) rfl rfl, hE3.to F36 t6 (fun q _ k => hcr2 0 (by decide) q k), hGK, F3.trans F36 (fun q hq k => by omega), hA3.trans t6 F3.z, by omega, by omega⟩
  have kg : gK (nw_ g 11 5) (gz g) = 11 := by rw [K_nw, if_pos rfl]
  have la1 : a < gz g1 := F1.lt ha.2.2.1
  have la3 : a < gz g3 := F3.lt ha.2.2.1
  have haz : ¬ a = gz g3 := by omega
  have hcz3 : ¬ gz g = gz g3 := by omega
  unfold X12_init
  rw [e_wk kg, ← hg1, r1, if_pos rfl, e_nn, e_wk (by rw [F1.K ha.2.2.1, ha.1]), F1.R ha.2.2.1 (fun k => k), ha.2.2.2.1, e_nn, e_wk hS1.1.1, b1, e_ca, e_wk k2, ← hg3, e_al]
  have k4 : gK (nw_ g3 10 8) (gz g) = 11 := by rw [K_nw, if_neg hcz3, k3]
  have ka4 : gK (nw_ g3 10 8) a = 1 := by rw [K_nw, if_neg haz, hp3.1.1.1.1]
  have kx4 : gK (nw_ g3 10 8) x = 3 := by
    have := hp3.2.1.2.1
    rw [K_nw, if_neg (by have := this.2.2.1; omega), this.1]
  rw [e_wk k4, R_nw, if_neg hcz3, r3, if_neg (by decide), if_pos rfl, e_nn, e_nn, e_wk ka4, R_nw, if_neg haz, hp3.2.1.1, e_nn, e_wk kx4, t1, e_ca, t2, e_ca, e_wk k5, ← hg6, e_bp, e_bp, e_bp, e_bp]
theorem op_marks {a o : Nat} {g : GS} {σ : MS} (hr : Rel a o g σ) (x1 : Int32) : OpT [(2, 1)] a o (X1_marks a x1 g) (X4_marks x1 σ) := by
  obtain ⟨ρ, sc, v, n, kk, h, x, m, T, hp⟩ := hr
  have hp0 := hp.m (s0_eq (c := 0))
  have ha := hp.1.1.1
  unfold X1_marks X4_marks
  rw [X1_in_l, X4_within_l, e_ob, e_ob]
  cases hw : wi_ x1 0 3 with
  | false =>
    refine OpT.ex (e := 2) (q := gz g) (r := 0) (g' := g) (σ' := s_I (s_I σ 0 0) 0 1) (dc := 1) (ds := 6) ?_ ?_ (hp0.r s0_eq) (by omega) (by omega) (List.mem_cons_self)
    · rw [if_neg (show ¬ (false = true) by decide), X1_right_f, e_tcr, e_b0]
    · rw [if_neg (show ¬ (false = true) by decide), X4_right0 s0_0 (by decide), e_cb, if_pos rfl]
  | true =>
    obtain ⟨w1, w2⟩ := wi_t.mp hw
    have k3 : ((3 : Int32)).toInt = 3 := by decide
    rw [k_0] at w1
    rw [k3] at w2
    obtain ⟨k, rfl, hk2, -⟩ := i_nat w1
    have hk : k ≤ 3 := by omega
    rw [if_pos rfl, X1_right_t, e_tcl, bp_0, X4_right1 s0_0, e_cb, if_neg nn01]
    obtain ⟨g7, ρ7, dc1, ds1, σ1, σ2, ps, P, u, x', sa, ra, oa, lm, zs, b1, b2, b3, b4, b5, b6, b7, b8, b9, b10, b11, b12, b13, b14, b15⟩ := chalks_l (nI k) hp0
    rw [b2, e_ob, b3, e_ob]
    obtain ⟨hC, hK, hTn, hrr, hS, ⟨hm, hm6⟩, hR⟩ := id b6
    obtain ⟨⟨c1, c2, c3, c4, c5, c6⟩, -⟩ := id (b11 k)
    -- the list is emptied
    obtain ⟨e, he⟩ := b8
    obtain ⟨g8, d1, d2, d3, d4⟩ := J2_clear_l he
    have F78 : Fr (fun q => ρ7 q = 10) g7 g8 := he.fr d3
    have hx7 : ¬ (x' = lm ∨ (x' = e ∧ gK g7 e = 103)) := by
      rintro (q | ⟨q, q2⟩)
      · have := he.1
        rw [← q, hS.1] at this
        cases this
      · rw [← q, hS.1] at q2
        cases q2
    have hpre : (al_ g 11 5 fun u9 g10 => ca_ (X12_init u9 a g10) fun r15 g14 => wk_ g14 u9 11 <| nn_ (gR g14 u9 1) fun b19 => wk_ g14 b19 10 <| nn_ (gR g14 b19 0) fun b22 => wk_ g14 b22 3 <| nn_ (gR g14 b22 6) fun b25 => wk_ g14 b25 12 <| ob_ (J2_clear b25 g14) fun g29 => wk_ g29 u9 11 <| ca_ (X12_go u9 0 (nI k) g29) fun r33 g32 => wk_ g32 u9 11 <| if (gR g32 u9 2) = 0 then X1_marks_j54 u9 g32 else nn_ (gR g32 u9 2) fun b39 => wk_ g32 a 1 <| X1_marks_j54 u9 (pR g32 a 10 (b39 + 1))) = bp_ 1 5 (bp_ dc1 ds1 (ca_ (X12_go (gz g) 0 (nI k) g8) fun r33 g32 => wk_ g32 (gz g) 11 <| if (gR g32 (gz g) 2) = 0 then X1_marks_j54 (gz g) g32 else nn_ (gR g32 (gz g) 2) fun b39 => wk_ g32 a 1 <| X1_marks_j54 (gz g) (pR g32 a 10 (b39 + 1)))) := by
      rw [e_al, b1, e_ca, e_wk c1, c5, e_nn, e_wk hK.1.1, hK.2.1.1, e_nn, e_wk hS.1, b7, e_nn, e_wk he.1, d1, e_ob, e_wk (by rw [d3.K c3, c1])]
    rw [hpre]
    have hL8 : LiP g8 ρ7 10 lm [] := ⟨e, d2⟩
    have hGK8 : ∀ σ', m_A σ' 70 = m_A σ2 70 → GK g8 ρ7 (gz g) P u k (-1) σ' := fun σ' h70 => (b11 k).to F78 Ag.rf (fun q _ k => ⟨by rw [k]; decide, by rw [k]; decide⟩) h70
    have F8 : Fr (fun q => ρ q = 6 ∨ 9 ≤ ρ q) g g8 := (b12.mono (fun _ _ k => Or.inr k)).trans F78 (fun q hq k => by rw [b13 q hq] at k; exact Or.inr (by rw [k]; decide))
    have hnoa : ¬ (ρ a = 6 ∨ 9 ≤ ρ a) := by rw [ha.2.1]; decide
    by_cases hkc : nI k ≤ m_I σ2 69
    · rw [if_pos hkc]
      have hkl : k ≤ ps.length := by
        rw [b9.2.2.1, i_le, i_n (by omega), i_n (by omega)] at hkc
        omega
      obtain ⟨σ3, s1, s2, s3⟩ := copies_l (σ := σ2) (a1 := 53) (a2 := 54) (L := 12) rfl rfl rfl rfl (by omega) (by omega) (by decide)
      obtain ⟨σ4, t1, t2, t3⟩ := nums_l (σ := s_I σ3 4 (nI k)) (m_I σ3 4) hk
      rw [s1, e_ob, t1, e_ob]
      have hM24 : Mf [4] [54, 72] σ2 σ4 := (((Mf.rf (LI := [4]) (LA := [54, 72])).trans s2 (fun _ k => by cases k) (by decide)).trans (Mf.sI (LI := [4]) (LA := []) (by decide)) (fun _ k => k) (fun _ k => by cases k)).trans t2 (fun _ k => by cases k) (by decide)
      have e53 : m_A σ4 53 = m_A σ2 53 := hM24.Af (by decide)
      have hGC8 : GC g8 ρ7 a sc v n kk h T u x' sa ra oa lm P ps k σ4 := by
        have hCx : CW g8 ρ7 a sc v n kk h σ4 := hC.to F78 Ag.rf (fun q _ k k2 => by rw [k] at k2; cases k2) ⟨F78.R hC.1.2.2.1 (by rw [hC.1.2.1]; decide) 0, F78.R hC.1.2.2.1 (by rw [hC.1.2.1]; decide) 2⟩ hM24 (by decide) (by decide)
        have hu10 : ¬ ρ7 u = 10 := by rw [hK.1.2.1]; decide
        obtain ⟨x1', x2', x3', ⟨y0, y1, y2, y3, y4, y5⟩, -⟩ := id hS
        obtain ⟨⟨n1, n1'⟩, ⟨n2, n2'⟩, n3, n3'⟩ := hTn
        refine ⟨hCx, hK.to F78 Ag.rf (fun i => F78.R hK.1.2.2 hu10 i), ⟨⟨by rw [F78.I hK.1.2.2 hu10, n1, hM24.I (by decide)], by rw [hM24.I (by decide)]; exact n1'⟩, ⟨by rw [F78.I hK.1.2.2 hu10, n2, hM24.I (by decide)], by rw [hM24.I (by decide)]; exact n2'⟩, by rw [F78.I hK.1.2.2 hu10, n3, hM24.I (by decide)], by rw [hM24.I (by decide)]; exact n3'⟩, ⟨by rw [d3.K x3', x1'], x2', d3.lt x3', ?_, by rw [d3.R x3' hx7, b7]⟩, ⟨?_, hp.1.2.2⟩, ?_, ?_, b9.to F78 Ag.rf (fun q _ k k2 => by rw [k2] at k; omega) (hM24.I (by decide)) (hM24.Af (by decide)), b10.to F78 Ag.rf (fun q _ k k2 => by rw [k2] at k; cases k)⟩
        · rw [e53]
          exact ⟨by rw [d3.I x3' hx7, y0], by rw [d3.I x3' hx7, y1], by rw [d3.I x3' hx7, y2], by rw [d3.I x3' hx7, y3], by rw [d3.I x3' hx7, y4], by rw [d3.I x3' hx7, y5]⟩
        · rw [hM24.Af (by decide), b4.Af (by decide)]
          exact hp0.1.2.1
        · rw [t2.I (by decide)]; rfl
        · rw [e53]
          exact ⟨hR.1, hR.2.1, hR.2.2.1, hR.2.2.2.1, hR.2.2.2.2.1, hR.2.2.2.2.2.1, fun i hi => absurd hi (Nat.not_lt_zero _)⟩
      obtain ⟨g9, ρ9, dc2, ds2, σ5, b', fl, s, r1, r2, r3, r4, r5, r6, r7, r8, r9, r10, r11, r12, r13, r14⟩ := go_l (mo := m_I σ3 4) hk b5 k 0 5 (by omega) (by omega) 0 (fun _ => 0) [] g8 ρ7 (-1) σ4 (by omega) hGC8 (hGK8 σ4 (hM24.Af (by decide))) hL8 rfl (fun i y hy => by cases hy) (fun i hi => absurd hi (Nat.not_lt_zero _)) (fun i hi => absurd hi (Nat.not_lt_zero _)) (fun t ht => by rw [Nat.zero_add]; exact t3 t ht)
      have hfl : fl = 0 := r10
      subst hfl
      have h13 : 13 ^ k ≤ 2197 := by
        rcases (show k = 0 ∨ k = 1 ∨ k = 2 ∨ k = 3 by omega) with q | q | q | q <;> rw [q] <;> decide
      have hcst : gc_ k ≤ 6773 ∧ gs_ k ≤ 51246 := by
        rcases (show k = 0 ∨ k = 1 ∨ k = 2 ∨ k = 3 by omega) with q | q | q | q <;> rw [q] <;> decide
      have hloop : lp_ (fun a : Int32 × Int32 × MS => X4_marks_b117 (nI k) (m_I σ3 4) a.1 a.2.1 a.2.2) fu_ (-1, 1, σ4) = some (b', σ5) := by
        obtain ⟨f, hf⟩ : ∃ f, fu_ = (f + 1) + s := ⟨fu_ - 1 - s, by unfold fu_; omega⟩
        rw [hf, r2 (f + 1)]
        refine lp_end ?_ f
        show X4_marks_b117 (nI k) (m_I σ3 4) b' 0 σ5 = _
        unfold X4_marks_b117
        rw [if_pos rfl]
      have hloop' : lp_ (fun a : Int32 × Int32 × MS => X4_marks_b117 (nI k) (m_I σ3 4) a.1 a.2.1 a.2.2) fu_ (-1, 1, σ4) = some (b', σ5) := hloop
      obtain ⟨σ6, u1, u2, u3⟩ := copies_l (σ := s_I σ5 4 (m_I σ3 4)) (a1 := 54) (a2 := 53) (L := 12) rfl rfl rfl rfl (by omega) (by omega) (by decide)
      rw [hloop', e_ob, u1, e_ob]
      -- the best
      obtain ⟨⟨z1, z2, z3, z4, z5, z6⟩, hbest⟩ := r5
      obtain ⟨bl, bs, -, v1, v2, v3, v4⟩ : ∃ bl bs, 0 ≤ b'.toInt ∧ gR g9 (gz g) 2 = bl + 1 ∧ LiP g9 ρ9 0 bl bs ∧ bs.length = k ∧ IP g9 ρ9 bs (m_A σ5 70) := by
        rcases hbest with ⟨q, -⟩ | q
        · rw [q] at r12; exact absurd r12 (by decide)
        · exact q
      have hA9 : Ag g ρ ρ9 := b13.trans r8 F8.z
      have F9 : Fr (fun q => ρ q = 6 ∨ 9 ≤ ρ q) g g9 := F8.trans r7 (fun q hq k => by rw [b13 q hq] at k; exact k)
      have hp9 : RelP a o sc v n kk h x m T g9 ρ9 σ := hp.to F9 hA9 (fun q _ k => Or.inr k) (fun i => F9.R ha.2.2.1 hnoa i) (fun i _ => F9.I ha.2.2.1 hnoa i) MEq.rf
      have ha9 := hp9.1.1.1
      obtain ⟨g10, hg10⟩ : ∃ g10, g10 = pR g9 a 10 (bl + 1) := ⟨_, rfl⟩
      have F10 : Fr (fun q => q = a) g9 g10 := by rw [hg10]; exact Fr.pR rfl
      obtain ⟨σ7, hσ7⟩ : ∃ σ7, σ7 = s_I σ6 68 (nI k) := ⟨_, rfl⟩
      have hM02 : Mf [0, 4, 68, 69] [53, 54, 57, 58, 61, 62, 63, 70, 71, 72] σ σ2 := (Mf.sI (LI := [0, 4, 68, 69]) (LA := [53, 54, 57, 58, 61, 62, 63, 70, 71, 72]) (by decide)).trans b4 (by decide) (by decide)
      have hM : Mf [0, 4, 68, 69] [53, 54, 57, 58, 61, 62, 63, 70, 71, 72] σ σ7 := by
        rw [hσ7]
        exact ((((hM02.trans hM24 (by decide) (by decide)).trans r9 (fun _ k => by cases k) (by decide)).trans (Mf.sI (LI := [4]) (LA := []) (by decide)) (by decide) (fun _ k => by cases k)).trans u2 (fun _ k => by cases k) (by decide)).trans (Mf.sI (LI := [68]) (LA := []) (by decide)) (by decide) (fun _ k => by cases k)
      have i4 : m_I σ7 4 = m_I σ 4 := by
        rw [hσ7, rI_sI, if_neg (by decide), u2.I (by simp), rI_sI, if_pos rfl, s2.I (by simp), b4.I (by decide)]
        rfl
      have row : ∀ i, i < 12 → m_A σ7 53 i = m_A σ 53 i := fun i hi => by
        rw [hσ7, rA_sI, u3, if_pos hi, rA_sI, r9.A (by decide), t2.A (by decide), rA_sI, s3, if_pos hi, b4.A (by decide)]
        rfl
      have e70 : m_A σ7 70 = m_A σ5 70 := by rw [hσ7]; exact u2.Af (j := 70) (by decide)
      have m12 : ∀ i, i < 6 + m → i < 12 := fun i hi => by have := hp.2.1.2.2.1.2; omega
      have hna : ∀ r, r ≠ 1 → ∀ q, ρ9 q = r → ¬ q = a := fun r hr q k k2 => by rw [k2, ha9.2.1] at k; exact hr k.symm
      obtain ⟨B, N, Z, Ta, Re, Ac, Fi, Bo, Ke, Im, En, Ou⟩ := hp9.all (LR := [10]) (LJ := []) (D := [1]) F10 Ag.rf (fun r hr q _ k e => by
        rw [e, ha9.2.1] at k; exact hr (by simp [k])) (fun i hi => by rw [hg10, R_pR, if_neg (by rintro ⟨-, q⟩; exact hi (by simp [q]))]) (fun i _ => by rw [hg10, I_pR]) hM (by decide)
      have hNow : NowP g10 ρ9 a x m h σ7 := ⟨by rw [hg10, R_pR, if_neg (by rintro ⟨-, q⟩; cases q), hp9.2.1.1], (hp9.2.1.2.1.to F10 Ag.rf (fun q _ k => k.elim (hna 2 (by decide) q) (hna 0 (by decide) q))).congr (fun i hi => row i (m12 i hi)), ⟨by rw [i4]; exact hp.2.1.2.2.1.1, hp.2.1.2.2.1.2⟩, hp.2.1.2.2.2.congr (fun i hi => row i (m12 i hi))⟩
      have hAc : AcP g10 ρ9 3 a 7 m h (m_A σ7 53) (m_A σ7 55) (m_I σ7 56) := by
        rw [hM.Af (j := 55) (by decide), hM.I (k := 56) (by decide)]
        obtain ⟨l7, xs7, q1, q2, q3, q4, q5⟩ := hp9.2.2.2.2.2.1
        exact ⟨l7, xs7, by rw [hg10, R_pR, if_neg (by rintro ⟨-, q⟩; cases q), q1], q2.to F10 Ag.rf (fun q _ k => k.elim (hna 3 (by decide) q) (hna 0 (by decide) q)), q3, q4, (q5.to F10 Ag.rf (fun q _ k => hna 0 (by decide) q k)).congr (fun i hi => row i (m12 i hi)) (fun _ _ => rfl)⟩
      have hKe : KepP g10 ρ9 a σ7 := Or.inr ⟨bl, bs, by rw [hg10, R_pR, if_pos ⟨rfl, rfl⟩], v2.to F10 Ag.rf (fun q _ k => k.elim (hna 0 (by decide) q) (hna 0 (by decide) q)), by rw [hσ7, rI_sI, if_pos rfl, v3], by rw [v3]; exact hk, by rw [e70]; exact v4.to F10 Ag.rf (fun q _ k => hna 0 (by decide) q k)⟩
      have hz10 : ¬ gz g = a := by have := ha.2.2.1; omega
      refine OpT.ok (r := b') (g' := g10) (σ' := σ7) (dc := 0 + dc2 + dc1 + 1) (ds := 0 + ds2 + ds1 + 5) ?_ (by rw [hσ7]) ⟨ρ9, sc, v, n, kk, h, x, m, T, B (by decide), hNow, Z (by decide), Ta (by decide), Re (by decide), hAc, Fi (by decide), Bo (by decide), hKe, Im (by decide), En, Ou⟩ (by omega) (by omega) ?_
      · unfold X12_go
        rw [show (0 : Int32) = nI 0 from rfl, r1, e_ca, e_wk z1, if_neg (by omega), v1, e_nn, e_wk ha9.1, ← hg10]
        unfold X1_marks_j54
        rw [e_wk (by rw [hg10, K_pR, z1]), hg10, I_pR, z6, e_bp, e_bp, e_bp]
      · rw [hσ7, rI_sI, if_neg (by decide), u2.I (by simp), rI_sI, if_neg (by decide), r9.I (by simp), hM24.I (by decide), b4.I (by decide)]
        rfl
    · rw [if_neg hkc]
      have hkl : ps.length < k := by
        rw [b9.2.2.1, i_le, i_n (by omega), i_n (by omega)] at hkc
        omega
      have hA8 : Ag g ρ ρ7 := b13
      have hP8 : PlcP g8 ρ7 P ps σ2 := b9.to F78 Ag.rf (fun q _ k k2 => by rw [k2] at k; omega) rfl rfl
      obtain ⟨⟨z1, z2, z3, z4, z5, z6⟩, hb8⟩ := hGK8 σ2 rfl
      have z7 : gR g8 (gz g) 2 = 0 := by
        rcases hb8 with ⟨-, q⟩ | ⟨_, _, q, -⟩
        · exact q
        · exact absurd q (by decide)
      have hgo : X12_go (gz g) 0 (nI k) g8 = some (((), g8), 0, 0) := by
        show X12_go_b (X12_go_r 4) (gz g) 0 (nI k) g8 = _
        unfold X12_go_b
        have hf : fu_ = (fu_ - 1) + 1 := by unfold fu_; omega
        rw [if_neg (nI_ne0 (by omega) (by omega)), hf, la_end (e := g8)]
        · rfl
        · show X12_go_b53 (X12_go_r 4) (gz g) (nI k) 0 g8 = _
          unfold X12_go_b53
          rw [e_wk z1, z4, e_nn, e_wk hP8.1.K, J2_size_l hP8.1, e_ob, show (0 : Int32) = nI 0 from rfl, nI_add, if_pos (nI_lt (by omega) (by omega))]
      have hp8 : RelP a o sc v n kk h x m T g8 ρ7 σ2 := hp0.to F8 hA8 (fun q _ k => Or.inr k) (fun i => F8.R ha.2.2.1 hnoa i) (fun i _ => F8.I ha.2.2.1 hnoa i) (b4.eq (by decide) (by decide))
      refine OpT.ok (r := -1) (g' := g8) (σ' := σ2) (dc := 0 + 0 + dc1 + 1) (ds := 0 + 0 + ds1 + 5) ?_ rfl ⟨_, _, _, _, _, _, _, _, _, hp8⟩ (by omega) (by omega) (by rw [b4.I (by decide)]; rfl)
      rw [hgo, e_ca, e_wk z1, if_pos z7]
      unfold X1_marks_j54
      rw [e_wk z1, z6, e_bp, e_bp, e_bp]
end
section
/-! LAWS: the text's tokens (own work) -/
set_option maxRecDepth 100000
theorem by_255 : ∀ n : Fin 256, (nI n.val).toInt8.toInt32 &&& 255 = nI n.val := by decide +kernel
theorem pI_id {g : GS} {a k : Nat} {v : Int32} (h : v = gI g a k) : pI g a k v = g := by
  refine GS.ext' (fun _ => rfl) (fun _ => rfl) (fun b i => ?_) (fun _ _ => rfl) rfl rfl
  rw [I_pI]
  by_cases q : b = a ∧ i = k
  · rw [if_pos q, q.1, q.2, h]
  · rw [if_neg q]
/-- the reader rd over the tape's first L bytes tx -/
def TxP (g : GS) (ρ : Nat → Nat) (rd a tp L : Nat) (tx : Nat → Nat) (σ : MS) : Prop :=
  (gK g rd = 4 ∧ ρ rd = 9 ∧ rd < gz g ∧ gI g rd 0 = nI L ∧ gR g rd 14 = a + 1) ∧ (gK g a = 1 ∧ ρ a = 1 ∧ a < gz g ∧ gR g a 3 = tp + 1) ∧ (gK g tp = 101 ∧ gN g tp = 700 ∧ ρ tp = 7 ∧ tp < gz g ∧ ∀ i, i < 700 → gI g tp i = (nI (tx i)).toInt8.toInt32) ∧ (m_I σ 19 = nI L ∧ L ≤ 700) ∧ (∀ i, i < 700 → m_A σ 14 i = nI (tx i)) ∧ ∀ i, tx i ≤ 255
theorem TxP.to {W : Nat → Prop} {g g' : GS} {ρ ρ' : Nat → Nat} {rd a tp L : Nat} {tx : Nat → Nat} {σ σ' : MS} (h : TxP g ρ rd a tp L tx σ) (hF : Fr W g g') (hA : Ag g ρ ρ') (hW : ∀ q, q < gz g → W q → ¬ q = a ∧ ¬ q = tp) (h0 : gI g' rd 0 = gI g rd 0) (h14 : gR g' rd 14 = gR g rd 14) (e19 : m_I σ' 19 = m_I σ 19) (e14 : m_A σ' 14 = m_A σ 14) : TxP g' ρ' rd a tp L tx σ' := by
  obtain ⟨⟨a1, a2, a3, a4, a5⟩, ⟨b1, b2, b3, b4⟩, ⟨c1, c2, c3, c4, c5⟩, ⟨d1, d2⟩, e1, f1⟩ := h
  have hna : ¬ W a := fun k => (hW a b3 k).1 rfl
  have hnt : ¬ W tp := fun k => (hW tp c4 k).2 rfl
  exact ⟨⟨by rw [hF.K a3, a1], by rw [hA rd a3, a2], hF.lt a3, by rw [h0, a4], by rw [h14, a5]⟩, ⟨by rw [hF.K b3, b1], by rw [hA a b3, b2], hF.lt b3, by rw [hF.R b3 hna, b4]⟩, ⟨by rw [hF.K c4, c1], by rw [hF.N c4, c2], by rw [hA tp c4, c3], hF.lt c4, fun i hi => by rw [hF.I c4 hnt, c5 i hi]⟩, ⟨by rw [e19, d1], d2⟩, by rw [e14]; exact e1, f1⟩
theorem TxP.ne {g : GS} {ρ : Nat → Nat} {rd a tp L : Nat} {tx : Nat → Nat} {σ : MS} (h : TxP g ρ rd a tp L tx σ) : ¬ rd = a ∧ ¬ rd = tp := by
  obtain ⟨⟨a1, -⟩, ⟨b1, -⟩, ⟨c1, -⟩, -⟩ := h
  exact ⟨fun q => (by rw [q, b1] at a1; omega), fun q => (by rw [q, c1] at a1; omega)⟩
/-- one of the reader's numbers is set -/
theorem TxP.put {g : GS} {ρ : Nat → Nat} {rd a tp L k : Nat} {v : Int32} {tx : Nat → Nat} {σ σ' : MS} (h : TxP g ρ rd a tp L tx σ) (hk : k ≠ 0) (e19 : m_I σ' 19 = m_I σ 19) (e14 : m_A σ' 14 = m_A σ 14) : TxP (pI g rd k v) ρ rd a tp L tx σ' := by
  obtain ⟨n1, n2⟩ := h.ne
  exact h.to (W := fun q => q = rd) (Fr.pI rfl) Ag.rf (fun q _ k => by rw [k]; exact ⟨n1, n2⟩) (by rw [I_pI, if_neg (by rintro ⟨-, q⟩; exact hk q.symm)]) rfl e19 e14
theorem here_l {g : GS} {ρ : Nat → Nat} {rd a tp L p : Nat} {tx : Nat → Nat} {σ : MS} (h : TxP g ρ rd a tp L tx σ) (hp : gI g rd 8 = nI p) (hp7 : p ≤ 700) : X5_here rd g = some (if L ≤ p then -1 else nI (tx p)) := by
  obtain ⟨⟨a1, a2, a3, a4, a5⟩, ⟨b1, b2, b3, b4⟩, ⟨c1, c2, c3, c4, c5⟩, ⟨d1, d2⟩, e1, f1⟩ := h
  unfold X5_here
  rw [e_wk a1, a4, hp]
  by_cases q : L ≤ p
  · rw [if_pos (nI_le q (by omega)), if_pos q]
  · rw [if_neg (nI_ge (by omega) (by omega)), if_neg q, a5, e_nn, e_wk b1, b4, e_nn, e_rk (by rw [c1]), c2, e_inN (by omega) (by omega), nI_clamp (by omega), c5 p (by omega), by_255 ⟨tx p, by have := f1 p; omega⟩]
theorem byteAt_l {g : GS} {ρ : Nat → Nat} {rd a tp L p : Nat} {tx : Nat → Nat} {σ : MS} (h : TxP g ρ rd a tp L tx σ) (hp7 : p ≤ 700) : X4_byteAt (nI p) σ = some (if L ≤ p then 0 else nI (tx p)) := by
  obtain ⟨-, -, -, ⟨d1, d2⟩, e1, f1⟩ := h
  unfold X4_byteAt
  rw [d1]
  by_cases q : L ≤ p
  · rw [if_pos (nI_le q (by omega)), if_pos q]
  · rw [if_neg (nI_ge (by omega) (by omega)), if_neg q, e_inN (by omega) (by omega), nI_clamp (by omega), e1 p (by omega)]
theorem inr_l {c lo hi : Nat} (hc : c < 2 ^ 31) (hl : lo < 2 ^ 31) (hh : hi < 2 ^ 31) : X1_in (nI c) (nI lo) (nI hi) = some (if lo ≤ c ∧ c ≤ hi then 1 else 0) := by
  unfold X1_in
  by_cases q : c < lo
  · rw [if_pos (nI_lt q hl), if_neg (by omega)]
  · rw [if_neg (nI_nlt (by omega) hc)]
    by_cases q2 : hi < c
    · rw [if_pos (nI_lt q2 hc), if_neg (by omega)]
    · rw [if_neg (nI_nlt (by omega) hh), if_pos (by omega)]
def isL_ (c : Nat) : Bool := decide (97 ≤ c ∧ c ≤ 122)
def isD_ (c : Nat) : Bool := decide (48 ≤ c ∧ c ≤ 57)
theorem isL_t {c : Nat} : isL_ c = true ↔ 97 ≤ c ∧ c ≤ 122 := by unfold isL_; exact decide_eq_true_iff
theorem isD_t {c : Nat} : isD_ c = true ↔ 48 ≤ c ∧ c ≤ 57 := by unfold isD_; exact decide_eq_true_iff
theorem X5_isLetter_l {g : GS} {ρ : Nat → Nat} {rd a tp L p : Nat} {tx : Nat → Nat} {σ : MS} (h : TxP g ρ rd a tp L tx σ) (hp : gI g rd 8 = nI p) (hp7 : p ≤ 700) : X5_isLetter rd g = some (if p < L ∧ isL_ (tx p) = true then 1 else 0) := by
  unfold X5_isLetter
  rw [e_wk h.1.1, here_l h hp hp7, e_ob]
  have h255 := h.2.2.2.2.2 p
  by_cases q : L ≤ p
  · rw [if_pos q, if_neg (by omega)]
    rfl
  · rw [if_neg q, show (97 : Int32) = nI 97 from rfl, show (122 : Int32) = nI 122 from rfl, inr_l (by omega) (by omega) (by omega), e_ob]
    simp only [isL_t]
    by_cases q2 : 97 ≤ tx p ∧ tx p ≤ 122
    · rw [if_pos q2, if_pos ⟨by omega, q2⟩]; rfl
    · rw [if_neg q2, if_neg (fun k => q2 k.2)]; rfl
theorem X5_isDigit_l {g : GS} {ρ : Nat → Nat} {rd a tp L p : Nat} {tx : Nat → Nat} {σ : MS} (h : TxP g ρ rd a tp L tx σ) (hp : gI g rd 8 = nI p) (hp7 : p ≤ 700) : X5_isDigit rd g = some (if p < L ∧ isD_ (tx p) = true then 1 else 0) := by
  unfold X5_isDigit
  rw [e_wk h.1.1, here_l h hp hp7, e_ob]
  have h255 := h.2.2.2.2.2 p
  by_cases q : L ≤ p
  · rw [if_pos q, if_neg (by omega)]
    rfl
  · rw [if_neg q, show (48 : Int32) = nI 48 from rfl, show (57 : Int32) = nI 57 from rfl, inr_l (by omega) (by omega) (by omega), e_ob]
    simp only [isD_t]
    by_cases q2 : 48 ≤ tx p ∧ tx p ≤ 57
    · rw [if_pos q2, if_pos ⟨by omega, q2⟩]; rfl
    · rw [if_neg q2, if_neg (fun k => q2 k.2)]; rfl
theorem X4_isLetter_l {c : Nat} (hc : c ≤ 255) : X4_isLetter (nI c) = some (if isL_ c = true then 1 else 0) := by
  simp only [isL_t]
  exact inr_l (lo := 97) (hi := 122) (by omega) (by omega) (by omega)
theorem X4_isDigit_l {c : Nat} (hc : c ≤ 255) : X4_isDigit (nI c) = some (if isD_ c = true then 1 else 0) := by
  simp only [isD_t]
  exact inr_l (lo := 48) (hi := 57) (by omega) (by omega) (by omega)
/-- the blanks are skipped -/
theorem skip_l {g : GS} {ρ : Nat → Nat} {rd a tp L p : Nat} {tx : Nat → Nat} {σ : MS} (h : TxP g ρ rd a tp L tx σ) (hp : gI g rd 8 = nI p) (hm : m_I σ 20 = nI p) (hpL : p ≤ L) : ∃ q, p ≤ q ∧ q ≤ L ∧ lp_ (fun a => X5_next_b0 rd a) fu_ g = some (pI g rd 8 (nI q)) ∧ lp_ (fun a => X4_goes_b0 a) fu_ σ = some (s_I σ 20 (nI q)) ∧ (q = L ∨ q < L ∧ ¬ tx q = 32 ∧ ¬ tx q = 10) := by
  have hL := h.2.2.2.1.2
  obtain ⟨e, e', m1, m2, q, m3, m4, m5, m6, m7⟩ := lp2_t (body := fun a => X5_next_b0 rd a) (body' := fun a => X4_goes_b0 a)
    (I := fun j (g' : GS) (σ' : MS) => ∃ q, p ≤ q ∧ q ≤ L ∧ j = L - q ∧ g' = pI g rd 8 (nI q) ∧ σ' = s_I σ 20 (nI q))
    (Q := fun g' σ' => ∃ q, p ≤ q ∧ q ≤ L ∧ g' = pI g rd 8 (nI q) ∧ σ' = s_I σ 20 (nI q) ∧ (q = L ∨ q < L ∧ ¬ tx q = 32 ∧ ¬ tx q = 10))
    (by
      rintro j g1 σ1 ⟨q, q1, q2, q3, rfl, rfl⟩
      have hT : TxP (pI g rd 8 (nI q)) ρ rd a tp L tx (s_I σ 20 (nI q)) := h.put (by decide) rfl rfl
      have h8 : gI (pI g rd 8 (nI q)) rd 8 = nI q := by rw [I_pI, if_pos ⟨rfl, rfl⟩]
      have h255 := h.2.2.2.2.2 q
      unfold X5_next_b0 X4_goes_b0 X5_next_j18 X4_goes_j37
      rw [e_wk hT.1.1, here_l hT h8 (by omega), e_ob, e_ob, hT.2.2.2.1.1, rI_sI, if_pos rfl]
      by_cases hq : L ≤ q
      · rw [if_pos hq, if_neg (by decide), if_neg (by decide), if_pos (nI_le hq (by omega))]
        exact Or.inr ⟨_, _, rfl, rfl, q, q1, q2, rfl, rfl, Or.inl (by omega)⟩
      · rw [if_neg hq, if_neg (nI_ge (by omega) (by omega)), byteAt_l hT (by omega), e_ob, e_ob, if_neg hq, e_wk hT.1.1, h8, nI_1, pI_pI, sI_sI]
        have step : ∃ a' b' j', j' < j ∧ (some (Sum.inl (pI g rd 8 (nI (q + 1)))) : Option (GS ⊕ GS)) = some (.inl a') ∧ (some (Sum.inl (s_I σ 20 (nI (q + 1)))) : Option (MS ⊕ MS)) = some (.inl b') ∧ ∃ q, p ≤ q ∧ q ≤ L ∧ j' = L - q ∧ a' = pI g rd 8 (nI q) ∧ b' = s_I σ 20 (nI q) := ⟨_, _, j - 1, by omega, rfl, rfl, q + 1, by omega, by omega, by omega, rfl, rfl⟩
        by_cases h32 : tx q = 32
        · rw [if_pos (by rw [h32]; rfl), if_pos (by rw [h32]; rfl)]
          exact Or.inl step
        · have h32' : ¬ nI (tx q) = 32 := fun k => h32 (nI_inj (by omega) (by omega) k)
          rw [if_neg h32', if_neg h32']
          by_cases h10 : tx q = 10
          · rw [if_pos (by rw [h10]; rfl), if_pos (by rw [h10]; rfl)]
            exact Or.inl step
          · have h10' : ¬ nI (tx q) = 10 := fun k => h10 (nI_inj (by omega) (by omega) k)
            rw [if_neg h10', if_neg h10']
            exact Or.inr ⟨_, _, rfl, rfl, q, q1, q2, rfl, rfl, Or.inr ⟨by omega, h32, h10⟩⟩)
    fu_ (L - p) g σ ⟨p, Nat.le_refl _, hpL, rfl, (pI_id hp.symm).symm, (sI_id hm.symm).symm⟩ (by unfold fu_; omega)
  exact ⟨q, m3, m4, by rw [m1, m5], by rw [m2, m6], m7⟩
end
section
/-! LAWS: signs, numbers, words of the text (own work) -/
set_option maxRecDepth 100000
theorem by_127 : ∀ m : Fin 128, (nI m.val).toInt8.toInt32 = nI m.val := by decide +kernel
theorem by_eq {m n : Nat} (hm : m < 128) (hn : n ≤ 255) : nI m = (nI n).toInt8.toInt32 ↔ m = n := by
  have h1 := by_127 ⟨m, hm⟩
  simp only at h1
  constructor
  · intro h
    have h2 := by_255 ⟨n, by omega⟩
    have h3 := by_255 ⟨m, by omega⟩
    simp only at h2 h3
    rw [← h] at h2
    rw [h1] at h3
    exact nI_inj (by omega) (by omega) (h3.symm.trans h2)
  · intro h
    rw [← h, h1]
theorem LitP.fct {g : GS} {ρ : Nat → Nat} {q : Nat} {cs : List Nat} (h : LitP g ρ q cs) : ∃ b, gK g q % 1000 = 200 ∧ gI g q 1 = 0 ∧ gR g q 0 = b + 1 ∧ gK g b % 1000 = 101 ∧ gN g b = cs.length ∧ ∀ i c, cs[i]? = some c → gI g b i = nI c := by
  obtain ⟨h1, h2, h3, h4, b, h5, h6, h7, h8, h9, h10⟩ := h
  exact ⟨b, by rw [h1], h4, h5, by rw [h6], h9, h10⟩
theorem J8_length_l {g : GS} {ρ : Nat → Nat} {q : Nat} {cs : List Nat} (h : LitP g ρ q cs) : J8_length q g = some (nI cs.length) := by
  obtain ⟨b, h1, h2, h3, h4, h5, h6⟩ := h.fct
  unfold J8_length J8_coder
  rw [e_rk h1, h3, e_nn, e_rk h4, if_neg (by decide), e_rk h1, e_ob, h2, h5]
  rw [show (zy_ 0 &&& 31 : Int32) = 0 from by decide, Int32.shiftRight_zero]
  rfl
theorem J8_isLatin1_l {g : GS} {ρ : Nat → Nat} {q : Nat} {cs : List Nat} (h : LitP g ρ q cs) : J8_isLatin1 q g = some 1 := by
  obtain ⟨b, h1, h2, -⟩ := h.fct
  unfold J8_isLatin1
  rw [if_neg (by decide), e_rk h1, if_pos h2]
theorem J8_indexOf_l {g : GS} {ρ : Nat → Nat} {q c : Nat} {cs : List Nat} (h : LitP g ρ q cs) (hcs : ∀ x, x ∈ cs → x < 128) (hl0 : 0 < cs.length) (hl : cs.length ≤ 100) (hc : c ≤ 255) : ∃ r, J8_indexOf q (nI c) g = some r ∧ (r < 0 ↔ c ∉ cs) := by
  obtain ⟨b, h1, h2, h3, h4, h5, h6⟩ := h.fct
  obtain ⟨o, m1, m2⟩ := lp_t (body := fun a => J9_indexOfChar_b7 b (nI cs.length) (nI c).toInt8.toInt32 g a)
    (I := fun k a => ∃ i, a = nI i ∧ i ≤ cs.length ∧ k = cs.length - i ∧ ∀ j x, j < i → cs[j]? = some x → x ≠ c)
    (Q := fun o => (∃ i, o = .inl (nI i) ∧ i < cs.length ∧ c ∈ cs) ∨ (o = .inr () ∧ c ∉ cs))
    (by
      rintro k a ⟨i, rfl, e2, e3, e4⟩
      unfold J9_indexOfChar_b7
      by_cases hi : i < cs.length
      · obtain ⟨x, hx⟩ := get_ex (xs := cs) hi
        have hxm : x ∈ cs := List.mem_of_getElem? hx
        rw [if_neg (nI_ge hi (by omega)), e_rk h4, h5, e_inN hi (by omega), nI_clamp (by omega), h6 i x hx]
        by_cases q2 : x = c
        · rw [if_pos ((by_eq (hcs x hxm) hc).mpr q2)]
          exact Or.inr ⟨_, rfl, Or.inl ⟨i, rfl, hi, by rw [← q2]; exact hxm⟩⟩
        · rw [if_neg (fun k => q2 ((by_eq (hcs x hxm) hc).mp k)), nI_1]
          refine Or.inl ⟨_, k - 1, by omega, rfl, i + 1, rfl, by omega, by omega, fun j y hj hy => ?_⟩
          by_cases e : j = i
          · rw [e, hx] at hy
            rw [← Option.some.inj hy]
            exact q2
          · exact e4 j y (by omega) hy
      · rw [if_pos (nI_le (by omega) (by omega))]
        refine Or.inr ⟨_, rfl, Or.inr ⟨rfl, fun k => ?_⟩⟩
        obtain ⟨j, hj, hjx⟩ := List.mem_iff_getElem.mp k
        exact e4 j c (by omega) (by rw [List.getElem?_eq_getElem hj, hjx]) rfl)
    fu_ cs.length (nI 0) ⟨0, rfl, Nat.zero_le _, rfl, fun j x hj => absurd hj (Nat.not_lt_zero _)⟩ (by unfold fu_; omega)
  have hmx : jmax_ 0 0 = nI 0 := by decide
  have hmn : jmin_ (nI cs.length) (Int32.ofNat cs.length) = nI cs.length := by
    show jmin_ (nI cs.length) (nI cs.length) = nI cs.length
    unfold jmin_
    split <;> rfl
  have hlt : nI 0 < nI cs.length := nI_lt hl0 (by omega)
  have henc : J9_canEncode (nI c) = some 1 := by
    unfold J9_canEncode
    rw [if_neg (nI_pos (by omega)), if_neg (show ¬ (255 : Int32) < nI c from nI_nlt (a := 255) (b := c) hc (by omega))]
  unfold J8_indexOf J8_indexOf_2 J9_indexOf J9_indexOfChar
  rw [e_rk h1, e_rk h1, J8_isLatin1_l h, e_ob, if_neg nn01, h3, e_nn, J8_length_l h, e_ob, henc, e_ob, if_neg nn01, e_rk h4, h5, hmx, hmn, if_pos hlt, m1, e_ob]
  rcases m2 with ⟨i, rfl, hi, hm⟩ | ⟨rfl, hm⟩
  · refine ⟨nI i, rfl, fun k => absurd k (nI_pos (by omega)), fun k => absurd hm k⟩
  · exact ⟨-1, rfl, fun _ => hm, fun _ => by decide⟩
/-- the word's letters, as the model keeps them -/
def ha_ (h : Int64) (c : Int32) : Int64 := (h <<< ((5 : Int32).toInt64 &&& 63)) ||| ((c - 96).toInt64)
def hl_ (tx : Nat → Nat) (b : Nat) : Nat → Int64
  | 0 => 0
  | n + 1 => ha_ (hl_ tx b n) (nI (tx (b + n)))
def nu_ (tx : Nat → Nat) (b : Nat) : Nat → Nat
  | 0 => 0
  | n + 1 => 10 * nu_ tx b n + (tx (b + n) - 48)
def sig_ : List Nat := [59, 40, 41, 43, 45, 42, 47, 60, 61]
/-- a token: from b to e, of kind kd -/
def TokP (g : GS) (rd L : Nat) (tx : Nat → Nat) (b e kd : Nat) (σ : MS) : Prop :=
  (gI g rd 8 = nI e ∧ gI g rd 9 = nI kd ∧ gI g rd 10 = nI b ∧ gI g rd 11 = nI e) ∧ (m_I σ 20 = nI e ∧ m_I σ 21 = nI kd ∧ m_I σ 22 = nI b ∧ m_I σ 23 = nI (e - b)) ∧ (b ≤ e ∧ e ≤ L) ∧
  ((kd = 0 ∧ b = L ∧ e = L) ∨ (kd = 1 ∧ b < e ∧ (∀ i, b ≤ i → i < e → 97 ≤ tx i ∧ tx i ≤ 122) ∧ (e - b ≤ 6 → m_L σ = hl_ tx b (e - b))) ∨
   (kd = 2 ∧ b < e ∧ (e - b ≤ 4 → ∃ w, w ≤ 9999 ∧ gI g rd 12 = nI w ∧ m_I σ 24 = nI w)) ∨ (kd = 3 ∧ e = b + 1 ∧ tx b ∈ sig_ ∧ m_I σ 25 = nI (tx b)) ∨ (kd = 4 ∧ e = b + 1))
theorem nu_lt {tx : Nat → Nat} {b : Nat} : ∀ n, (∀ i, i < n → tx (b + i) ≤ 57) → nu_ tx b n < 10 ^ n := by
  intro n
  induction n with
  | zero => intro _; exact Nat.one_pos
  | succ n ih =>
    intro h
    have h1 := ih (fun i hi => h i (by omega))
    have h2 := h n (by omega)
    rw [Nat.pow_succ]
    unfold nu_
    omega
/-- a word's letters are passed -/
theorem pass_l {g : GS} {ρ : Nat → Nat} {rd a tp L b : Nat} {tx : Nat → Nat} {σ : MS} (h : TxP g ρ rd a tp L tx σ) (h8 : gI g rd 8 = nI b) (h20 : m_I σ 20 = nI b) (h22 : m_I σ 22 = nI b) (hL0 : m_L σ = 0) (hb : b < L) (hl : 97 ≤ tx b ∧ tx b ≤ 122) :
    ∃ e σ', lp_ (fun a => X5_next_b62 rd a) fu_ g = some (pI g rd 8 (nI e)) ∧ lp_ (fun a => X4_goes_b108 a) fu_ σ = some σ' ∧ Mf [20] [] σ σ' ∧ m_I σ' 20 = nI e ∧ b < e ∧ e ≤ L ∧ (∀ i, b ≤ i → i < e → 97 ≤ tx i ∧ tx i ≤ 122) ∧ (e - b ≤ 6 → m_L σ' = hl_ tx b (e - b)) := by
  have hL := h.2.2.2.1.2
  obtain ⟨g', σ', m1, m2, e, m3, m4, m5, m6, m7, m8, m9, m10, m11⟩ := lp2_t (body := fun a => X5_next_b62 rd a) (body' := fun a => X4_goes_b108 a)
    (I := fun j (g' : GS) (σ' : MS) => ∃ q, b ≤ q ∧ q ≤ L ∧ j = L - q ∧ g' = pI g rd 8 (nI q) ∧ Mf [20] [] σ σ' ∧ m_I σ' 20 = nI q ∧ (∀ i, b ≤ i → i < q → 97 ≤ tx i ∧ tx i ≤ 122) ∧ (q - b ≤ 6 → m_L σ' = hl_ tx b (q - b)))
    (Q := fun g' σ' => ∃ q, b ≤ q ∧ q ≤ L ∧ g' = pI g rd 8 (nI q) ∧ Mf [20] [] σ σ' ∧ m_I σ' 20 = nI q ∧ (∀ i, b ≤ i → i < q → 97 ≤ tx i ∧ tx i ≤ 122) ∧ (q - b ≤ 6 → m_L σ' = hl_ tx b (q - b)) ∧ ¬ (q < L ∧ 97 ≤ tx q ∧ tx q ≤ 122) ∧ True)
    (by
      rintro j g1 σ1 ⟨q, q1, q2, q3, rfl, q5, q6, q7, q8⟩
      have hT : TxP (pI g rd 8 (nI q)) ρ rd a tp L tx σ1 := h.put (by decide) (q5.I (by decide)) (q5.Af (by decide))
      have g8 : gI (pI g rd 8 (nI q)) rd 8 = nI q := by rw [I_pI, if_pos ⟨rfl, rfl⟩]
      have h255 := h.2.2.2.2.2 q
      have e22 : m_I σ1 22 = nI b := by rw [q5.I (by decide), h22]
      have hsub : nI q - nI b = nI (q - b) := by
        rw [i_eq, i_sub (by rw [i_n (by omega), i_n (by omega)]; omega) (by rw [i_n (by omega), i_n (by omega)]; omega), i_n (by omega), i_n (by omega), i_n (by omega)]
        omega
      unfold X5_next_b62 X4_goes_b108 X4_goes_j159
      rw [e_wk hT.1.1, X5_isLetter_l hT g8 (by omega), e_ob, q6, byteAt_l hT (by omega), e_ob, e_ob]
      simp only [isL_t]
      by_cases hq : q < L ∧ 97 ≤ tx q ∧ tx q ≤ 122
      · rw [if_pos hq, if_neg (show ¬ L ≤ q by omega), X4_isLetter_l h255, e_ob]
        simp only [isL_t]
        rw [if_pos hq.2, if_neg nn01, if_neg nn01, g8, nI_1, pI_pI, e22, hsub]
        have hlet : ∀ i, b ≤ i → i < q + 1 → 97 ≤ tx i ∧ tx i ≤ 122 := fun i i1 i2 => by
          by_cases e : i = q
          · rw [e]; exact hq.2
          · exact q7 i i1 (by omega)
        by_cases h6 : 6 ≤ q - b
        · rw [if_pos (show (6 : Int32) ≤ nI (q - b) from nI_le (a := 6) h6 (by omega))]
          refine Or.inl ⟨_, _, j - 1, by omega, rfl, rfl, q + 1, by omega, by omega, by omega, rfl, q5.trans (Mf.sI (LI := [20]) (LA := []) (by decide)) (fun _ k => k) (fun _ k => k), by rw [rI_sI, if_pos rfl], hlet, fun k => by omega⟩
        · rw [if_neg (show ¬ (6 : Int32) ≤ nI (q - b) from nI_ge (b := 6) (by omega) (by omega))]
          refine Or.inl ⟨_, _, j - 1, by omega, rfl, rfl, q + 1, by omega, by omega, by omega, rfl, (q5.trans (Mf.sL (LI := []) (LA := [])) (fun _ k => by cases k) (fun _ k => k)).trans (Mf.sI (LI := [20]) (LA := []) (by decide)) (fun _ k => k) (fun _ k => k), by rw [rI_sI, if_pos rfl, rI_sL, q6, nI_1], hlet, fun k => ?_⟩
          rw [show q + 1 - b = (q - b) + 1 by omega]
          show m_L (s_I (s_L σ1 _) 20 _) = ha_ (hl_ tx b (q - b)) (nI (tx (b + (q - b))))
          rw [rL_sI, rL_sL, q8 (by omega), show b + (q - b) = q by omega]
          rfl
      · rw [if_neg hq, if_pos rfl]
        have hno : X4_isLetter (if L ≤ q then 0 else nI (tx q)) = some 0 := by
          by_cases k : L ≤ q
          · rw [if_pos k]; rfl
          · rw [if_neg k, X4_isLetter_l h255]
            simp only [isL_t]
            rw [if_neg (fun k2 => hq ⟨by omega, k2⟩)]
        rw [hno, e_ob, if_pos rfl]
        exact Or.inr ⟨_, _, rfl, rfl, q, q1, q2, rfl, q5, q6, q7, q8, hq, trivial⟩)
    fu_ (L - b) g σ ⟨b, Nat.le_refl _, by omega, rfl, (pI_id h8.symm).symm, Mf.rf, h20, fun i i1 i2 => by omega, fun _ => by rw [Nat.sub_self, hL0]; rfl⟩ (by unfold fu_; omega)
  refine ⟨e, σ', by rw [m1, m5], m2, m6, m7, ?_, m4, m8, m9⟩
  rcases Nat.lt_or_ge b e with k | k
  · exact k
  · have : e = b := by omega
    exact absurd ⟨by omega, by rw [this]; exact hl⟩ m10
/-- a number's digits are passed -/
theorem digs_l {g : GS} {ρ : Nat → Nat} {rd a tp L b : Nat} {tx : Nat → Nat} {σ : MS} (h : TxP g ρ rd a tp L tx σ) (h8 : gI g rd 8 = nI b) (h12 : gI g rd 12 = 0) (h20 : m_I σ 20 = nI b) (h22 : m_I σ 22 = nI b) (h24 : m_I σ 24 = 0) (hb : b < L) (hl : 48 ≤ tx b ∧ tx b ≤ 57) :
    ∃ e w σ', lp_ (fun a => X5_next_b102 rd a) fu_ g = some (pI (pI g rd 12 w) rd 8 (nI e)) ∧ lp_ (fun a => X4_goes_b187 a) fu_ σ = some σ' ∧ Mf [20, 24] [] σ σ' ∧ m_I σ' 20 = nI e ∧ b < e ∧ e ≤ L ∧ (e - b ≤ 4 → ∃ n, n ≤ 9999 ∧ w = nI n ∧ m_I σ' 24 = nI n) := by
  have hL := h.2.2.2.1.2
  have k100k : ((100000 : Int32)).toInt = 100000 := by decide
  have k10 : ((10 : Int32)).toInt = 10 := by decide
  have k48 : ((48 : Int32)).toInt = 48 := by decide
  obtain ⟨g', σ', m1, m2, e, w, m3, m4, m5, m6, m7, m8, m9, m10⟩ := lp2_t (body := fun a => X5_next_b102 rd a) (body' := fun a => X4_goes_b187 a)
    (I := fun j (g' : GS) (σ' : MS) => ∃ q w, b ≤ q ∧ q ≤ L ∧ j = L - q ∧ g' = pI (pI g rd 12 w) rd 8 (nI q) ∧ Mf [20, 24] [] σ σ' ∧ m_I σ' 20 = nI q ∧ (∀ i, b ≤ i → i < q → 48 ≤ tx i ∧ tx i ≤ 57) ∧ (q - b ≤ 4 → w = nI (nu_ tx b (q - b)) ∧ m_I σ' 24 = nI (nu_ tx b (q - b))))
    (Q := fun g' σ' => ∃ q w, b ≤ q ∧ q ≤ L ∧ g' = pI (pI g rd 12 w) rd 8 (nI q) ∧ Mf [20, 24] [] σ σ' ∧ m_I σ' 20 = nI q ∧ (∀ i, b ≤ i → i < q → 48 ≤ tx i ∧ tx i ≤ 57) ∧ (q - b ≤ 4 → w = nI (nu_ tx b (q - b)) ∧ m_I σ' 24 = nI (nu_ tx b (q - b))) ∧ ¬ (q < L ∧ 48 ≤ tx q ∧ tx q ≤ 57))
    (by
      rintro j g1 σ1 ⟨q, w, q1, q2, q3, rfl, q5, q6, q7, q8⟩
      have hT1 : TxP (pI g rd 12 w) ρ rd a tp L tx σ1 := h.put (by decide) (q5.I (by decide)) (q5.Af (by decide))
      have hT : TxP (pI (pI g rd 12 w) rd 8 (nI q)) ρ rd a tp L tx σ1 := hT1.put (by decide) rfl rfl
      have g8 : gI (pI (pI g rd 12 w) rd 8 (nI q)) rd 8 = nI q := by rw [I_pI, if_pos ⟨rfl, rfl⟩]
      have g12 : gI (pI (pI g rd 12 w) rd 8 (nI q)) rd 12 = w := by rw [I_pI, if_neg (by rintro ⟨-, k⟩; cases k), I_pI, if_pos ⟨rfl, rfl⟩]
      have h255 := h.2.2.2.2.2 q
      have e22 : m_I σ1 22 = nI b := by rw [q5.I (by decide), h22]
      have hsub : nI q - nI b = nI (q - b) := by
        rw [i_eq, i_sub (by rw [i_n (by omega), i_n (by omega)]; omega) (by rw [i_n (by omega), i_n (by omega)]; omega), i_n (by omega), i_n (by omega), i_n (by omega)]
        omega
      unfold X5_next_b102 X4_goes_b187 X4_goes_j237
      rw [e_wk hT.1.1, X5_isDigit_l hT g8 (by omega), e_ob, q6, byteAt_l hT (by omega), e_ob, e_ob]
      simp only [isD_t]
      by_cases hq : q < L ∧ 48 ≤ tx q ∧ tx q ≤ 57
      · have hnq : ¬ L ≤ q := by omega
        have hlet : ∀ i, b ≤ i → i < q + 1 → 48 ≤ tx i ∧ tx i ≤ 57 := fun i i1 i2 => by
          by_cases e : i = q
          · rw [e]; exact hq.2
          · exact q7 i i1 (by omega)
        have hpp : ∀ v, pI (pI (pI (pI g rd 12 w) rd 8 (nI q)) rd 12 v) rd 8 (nI (q + 1)) = pI (pI g rd 12 v) rd 8 (nI (q + 1)) := fun v => by
          refine GS.ext' (fun _ => rfl) (fun _ => rfl) (fun c i => ?_) (fun _ _ => rfl) rfl rfl
          simp only [I_pI]
          by_cases z1 : c = rd ∧ i = 8
          · simp only [if_pos z1]
          · by_cases z2 : c = rd ∧ i = 12
            · simp only [if_neg z1, if_pos z2]
            · simp only [if_neg z1, if_neg z2]
        rw [if_pos hq, here_l hT g8 (by omega), e_ob]
        simp only [if_neg hnq]
        rw [X4_isDigit_l h255, e_ob]
        simp only [isD_t]
        rw [if_pos hq.2, if_neg nn01, if_neg nn01, e_nm, g12, I_pI, if_neg (by rintro ⟨-, k⟩; cases k), g8, nI_1, hpp, e22, hsub]
        by_cases h4 : 4 ≤ q - b
        · rw [if_pos (show (4 : Int32) ≤ nI (q - b) from nI_le (a := 4) h4 (by omega))]
          exact Or.inl ⟨_, _, j - 1, by omega, rfl, rfl, q + 1, _, by omega, by omega, by omega, rfl, q5.trans (Mf.sI (LI := [20]) (LA := []) (by decide)) (by decide) (fun _ k => k), by rw [rI_sI, if_pos rfl], hlet, fun k => by omega⟩
        · rw [if_neg (show ¬ (4 : Int32) ≤ nI (q - b) from nI_ge (b := 4) (by omega) (by omega))]
          obtain ⟨w1, w2⟩ := q8 (by omega)
          have hnu := nu_lt (tx := tx) (b := b) (q - b) (fun i hi => (q7 (b + i) (by omega) (by omega)).2)
          have hnu4 : nu_ tx b (q - b) < 1000 := by
            rcases (show q - b = 0 ∨ q - b = 1 ∨ q - b = 2 ∨ q - b = 3 by omega) with k | k | k | k <;> rw [k] at hnu ⊢ <;> omega
          have hval : 10 * nI (nu_ tx b (q - b)) + nI (tx q) - 48 = nI (nu_ tx b (q + 1 - b)) := by
            rw [show q + 1 - b = (q - b) + 1 by omega]
            show _ = nI (10 * nu_ tx b (q - b) + (tx (b + (q - b)) - 48))
            rw [show b + (q - b) = q by omega]
            have y1 : (10 * nI (nu_ tx b (q - b))).toInt = 10 * (nu_ tx b (q - b) : Int) := by
              rw [i_mul (by rw [k10, i_n (by omega)]; omega) (by rw [k10, i_n (by omega)]; omega), k10, i_n (by omega)]
            have y2 : (10 * nI (nu_ tx b (q - b)) + nI (tx q)).toInt = 10 * (nu_ tx b (q - b) : Int) + (tx q : Int) := by
              rw [i_add (by rw [y1, i_n (by omega)]; omega) (by rw [y1, i_n (by omega)]; omega), y1, i_n (by omega)]
            rw [i_eq, i_sub (by rw [y2, k48]; omega) (by rw [y2, k48]; omega), y2, k48, i_n (by omega)]
            omega
          have hmin : jmin_ 100000 (nI (nu_ tx b (q + 1 - b))) = nI (nu_ tx b (q + 1 - b)) := by
            have hn2 := nu_lt (tx := tx) (b := b) (q + 1 - b) (fun i hi => (hlet (b + i) (by omega) (by omega)).2)
            have hn5 : nu_ tx b (q + 1 - b) < 10000 := by
              rcases (show q + 1 - b = 1 ∨ q + 1 - b = 2 ∨ q + 1 - b = 3 ∨ q + 1 - b = 4 by omega) with k | k | k | k <;> rw [k] at hn2 ⊢ <;> omega
            unfold jmin_
            rw [if_pos]
            rw [i_lt, k100k, i_n (by omega)]
            omega
          refine Or.inl ⟨_, _, j - 1, by omega, rfl, rfl, q + 1, _, by omega, by omega, by omega, rfl, (q5.trans (Mf.sI (LI := [24]) (LA := []) (by decide)) (by decide) (fun _ k => k)).trans (Mf.sI (LI := [20]) (LA := []) (by decide)) (by decide) (fun _ k => k), by rw [rI_sI, if_pos rfl, rI_sI, if_neg (by decide), q6, nI_1], hlet, fun k => ⟨?_, ?_⟩⟩
          · rw [w1, hval, hmin]
          · rw [rI_sI, if_neg (by decide), rI_sI, if_pos rfl, w2, hval]
      · rw [if_neg hq, if_pos rfl]
        have hno : X4_isDigit (if L ≤ q then 0 else nI (tx q)) = some 0 := by
          by_cases k : L ≤ q
          · rw [if_pos k]; rfl
          · rw [if_neg k, X4_isDigit_l h255]
            simp only [isD_t]
            rw [if_neg (fun k2 => hq ⟨by omega, k2⟩)]
        rw [hno, e_ob, if_pos rfl]
        exact Or.inr ⟨_, _, rfl, rfl, q, w, q1, q2, rfl, q5, q6, q7, q8, hq⟩)
    fu_ (L - b) g σ ⟨b, 0, Nat.le_refl _, by omega, rfl, by rw [pI_id h12.symm, pI_id h8.symm], Mf.rf, h20, fun i i1 i2 => by omega, fun _ => by rw [Nat.sub_self, h24]; exact ⟨rfl, rfl⟩⟩ (by unfold fu_; omega)
  have hbe : b < e := by
    rcases Nat.lt_or_ge b e with k | k
    · exact k
    · have : e = b := by omega
      exact absurd ⟨by omega, by rw [this]; exact hl⟩ m10
  refine ⟨e, w, σ', by rw [m1, m5], m2, m6, m7, hbe, m4, fun k => ?_⟩
  obtain ⟨w1, w2⟩ := m9 k
  have hn2 := nu_lt (tx := tx) (b := b) (e - b) (fun i hi => (m8 (b + i) (by omega) (by omega)).2)
  have hn5 : nu_ tx b (e - b) < 10000 := by
    rcases (show e - b = 1 ∨ e - b = 2 ∨ e - b = 3 ∨ e - b = 4 by omega) with k | k | k | k <;> rw [k] at hn2 ⊢ <;> omega
  exact ⟨_, by omega, w1, w2⟩
end
section
/-! LAWS: the next token (own work) -/
set_option maxRecDepth 100000
theorem pI_keep {g : GS} {rd k i : Nat} {v : Int32} (hi : i < 8 ∨ 13 ≤ i) (hk : 8 ≤ k ∧ k ≤ 12) : gI (pI g rd k v) rd i = gI g rd i := by
  rw [I_pI, if_neg (by rintro ⟨-, q⟩; omega)]
theorem sigif {α : Type} {n : Nat} (hn : n ≤ 255) (A B : α) : (if nI n = 59 then A else if nI n = 40 then A else if nI n = 41 then A else if nI n = 43 then A else if nI n = 45 then A else if nI n = 42 then A else if nI n = 47 then A else if nI n = 60 then A else if nI n = 61 then A else B) = if n ∈ sig_ then A else B := by
  have e : ∀ m, m ≤ 255 → (nI n = nI m ↔ n = m) := fun m hm => ⟨fun k => nI_inj (by omega) (by omega) k, fun k => by rw [k]⟩
  have h59 := e 59 (by omega)
  have h40 := e 40 (by omega)
  have h41 := e 41 (by omega)
  have h43 := e 43 (by omega)
  have h45 := e 45 (by omega)
  have h42 := e 42 (by omega)
  have h47 := e 47 (by omega)
  have h60 := e 60 (by omega)
  have h61 := e 61 (by omega)
  show (if nI n = nI 59 then A else if nI n = nI 40 then A else if nI n = nI 41 then A else if nI n = nI 43 then A else if nI n = nI 45 then A else if nI n = nI 42 then A else if nI n = nI 47 then A else if nI n = nI 60 then A else if nI n = nI 61 then A else B) = _
  simp only [h59, h40, h41, h43, h45, h42, h47, h60, h61]
  unfold sig_
  simp only [List.mem_cons, List.not_mem_nil, or_false]
  by_cases k1 : n = 59
  · simp [k1]
  · by_cases k2 : n = 40
    · simp [k2]
    · by_cases k3 : n = 41
      · simp [k3]
      · by_cases k4 : n = 43
        · simp [k4]
        · by_cases k5 : n = 45
          · simp [k5]
          · by_cases k6 : n = 42
            · simp [k6]
            · by_cases k7 : n = 47
              · simp [k7]
              · by_cases k8 : n = 60
                · simp [k8]
                · by_cases k9 : n = 61
                  · simp [k9]
                  · simp [k1, k2, k3, k4, k5, k6, k7, k8, k9]
theorem tok_l {g : GS} {ρ : Nat → Nat} {rd a tp L p : Nat} {tx : Nat → Nat} {σ : MS} (h : TxP g ρ rd a tp L tx σ) (hSig : LitP g ρ (gS g 23) sig_) (hp : gI g rd 8 = nI p) (hm : m_I σ 20 = nI p) (hpL : p ≤ L) :
    ∃ g' σ' b e kd, X5_next rd g = some g' ∧ X4_goes σ = some σ' ∧ Fr (fun q => q = rd) g g' ∧ (∀ i, i < 8 ∨ 13 ≤ i → gI g' rd i = gI g rd i) ∧ gR g' = gR g ∧ gz g' = gz g ∧ Mf [20, 21, 22, 23, 24, 25] [] σ σ' ∧ TokP g' rd L tx b e kd σ' ∧ p ≤ b ∧ TxP g' ρ rd a tp L tx σ' := by
  have hL := h.2.2.2.1.2
  obtain ⟨q, q1, q2, s1, s2, s3⟩ := skip_l h hp hm hpL
  obtain ⟨g1, hg1⟩ : ∃ g1, g1 = pI (pI g rd 8 (nI q)) rd 10 (nI q) := ⟨_, rfl⟩
  obtain ⟨σ1, hσ1⟩ : ∃ σ1, σ1 = s_I (s_L (s_I (s_I σ 20 (nI q)) 22 (nI q)) 0) 24 0 := ⟨_, rfl⟩
  have hM1 : Mf [20, 21, 22, 23, 24, 25] [] σ σ1 := by
    rw [hσ1]
    exact (((Mf.sI (LI := [20, 21, 22, 23, 24, 25]) (LA := []) (by decide)).trans (Mf.sI (LI := [22]) (LA := []) (by decide)) (by decide) (fun _ k => k)).trans (Mf.sL (LI := []) (LA := [])) (fun _ k => by cases k) (fun _ k => k)).trans (Mf.sI (LI := [24]) (LA := []) (by decide)) (by decide) (fun _ k => k)
  have hT1 : TxP g1 ρ rd a tp L tx σ1 := by
    rw [hg1]
    exact (h.put (k := 8) (σ' := σ1) (by decide) (hM1.I (by decide)) (hM1.Af (by decide))).put (by decide) rfl rfl
  have g8 : gI g1 rd 8 = nI q := by rw [hg1, I_pI, if_neg (by rintro ⟨-, k⟩; cases k), I_pI, if_pos ⟨rfl, rfl⟩]
  have g10 : gI g1 rd 10 = nI q := by rw [hg1, I_pI, if_pos ⟨rfl, rfl⟩]
  have F1 : Fr (fun q => q = rd) g g1 := by rw [hg1]; exact (Fr.pI (W := fun q => q = rd) rfl).trans (Fr.pI (W := fun q => q = rd) rfl) (fun _ _ k => k)
  have I1 : ∀ i, i < 8 ∨ 13 ≤ i → gI g1 rd i = gI g rd i := fun i hi => by rw [hg1, pI_keep hi (by omega), pI_keep hi (by omega)]
  have e20 : m_I σ1 20 = nI q := by rw [hσ1]; rfl
  have e22 : m_I σ1 22 = nI q := by rw [hσ1]; rfl
  have e24 : m_I σ1 24 = 0 := by rw [hσ1]; rfl
  have eL : m_L σ1 = 0 := by rw [hσ1]; rfl
  have h255 := h.2.2.2.2.2 q
  -- the byte looked at
  obtain ⟨c, hc⟩ : ∃ c : Int32, c = if L ≤ q then 0 else nI (tx q) := ⟨_, rfl⟩
  obtain ⟨σ2, hσ2⟩ : ∃ σ2, σ2 = s_I σ1 25 c := ⟨_, rfl⟩
  have hM2 : Mf [20, 21, 22, 23, 24, 25] [] σ σ2 := by rw [hσ2]; exact hM1.trans (Mf.sI (LI := [25]) (LA := []) (by decide)) (by decide) (fun _ k => k)
  have hT2 : TxP g1 ρ rd a tp L tx σ2 := by rw [hσ2]; exact hT1.to (W := no_) Fr.rf Ag.rf (fun _ _ k => k.elim) rfl rfl rfl rfl
  have m19 : m_I (s_I σ 20 (nI q)) 19 = nI L := h.2.2.2.1.1
  have hgoes : X4_goes σ = if nI q < nI L then (ob_ (X4_isLetter c) fun r12 => if r12 = 0 then (ob_ (X4_isDigit c) fun r15 => if r15 = 0 then (if c = 59 then X4_goes_j323 (s_I σ2 20 (nI q + 1)) else if c = 40 then X4_goes_j323 (s_I σ2 20 (nI q + 1)) else if c = 41 then X4_goes_j323 (s_I σ2 20 (nI q + 1)) else if c = 43 then X4_goes_j323 (s_I σ2 20 (nI q + 1)) else if c = 45 then X4_goes_j323 (s_I σ2 20 (nI q + 1)) else if c = 42 then X4_goes_j323 (s_I σ2 20 (nI q + 1)) else if c = 47 then X4_goes_j323 (s_I σ2 20 (nI q + 1)) else if c = 60 then X4_goes_j323 (s_I σ2 20 (nI q + 1)) else if c = 61 then X4_goes_j323 (s_I σ2 20 (nI q + 1)) else X4_goes_j328 4 (s_I σ2 20 (nI q + 1))) else (ob_ (lp_ (fun a => X4_goes_b187 a) fu_ σ2) fun e35 => X4_goes_j331 (s_I e35 21 2))) else (ob_ (lp_ (fun a => X4_goes_b108 a) fu_ σ2) fun e44 => X4_goes_j331 (s_I e44 21 1))) else X4_goes_j331 (s_I σ2 21 0) := by
    have m20 : m_I (s_I σ 20 (nI q)) 20 = nI q := by rw [rI_sI, if_pos rfl]
    unfold X4_goes
    rw [s2, e_ob, m19, m20, ← hσ1, byteAt_l hT1 (by omega), e_ob, ← hc, ← hσ2]
  have hnext : X5_next rd g = if (if L ≤ q then (-1 : Int32) else nI (tx q)) = (-1) then X5_next_j185 rd (pI g1 rd 9 0) else (ob_ (X5_isLetter rd g1) fun r15 => if r15 = 0 then (ob_ (X5_isDigit rd g1) fun r18 => if r18 = 0 then (ob_ (X5_here rd g1) fun r21 => rk_ g1 (gS g1 23) 200 <| ob_ (J8_indexOf (gS g1 23) r21 g1) fun r24 => if r24 < 0 then X5_next_j172 rd rd 4 g1 else X5_next_j172 rd rd 3 g1) else (ob_ (lp_ (fun a => X5_next_b102 rd a) fu_ (pI g1 rd 12 0)) fun e38 => wk_ e38 rd 4 <| X5_next_j185 rd (pI e38 rd 9 2))) else (ob_ (lp_ (fun a => X5_next_b62 rd a) fu_ g1) fun e44 => wk_ e44 rd 4 <| X5_next_j185 rd (pI e44 rd 9 1))) := by
    have m8 : gI (pI g rd 8 (nI q)) rd 8 = nI q := by rw [I_pI, if_pos ⟨rfl, rfl⟩]
    unfold X5_next
    rw [s1, e_ob, e_wk (by exact h.1.1), m8, ← hg1, here_l hT1 g8 (by omega), e_ob]
  have hSig1 : LitP g1 ρ (gS g1 23) sig_ := by
    rw [F1.S]
    exact hSig.to F1 Ag.rf (fun k _ k1 k2 => by rw [k2, h.1.2.1] at k1; cases k1)
  by_cases hq : L ≤ q
  · have hqL : q = L := by omega
    subst hqL
    rw [if_pos (Nat.le_refl _)] at hc
    rw [if_pos (Nat.le_refl _), if_pos rfl] at hnext
    rw [if_neg (nI_nlt (Nat.le_refl _) (by omega))] at hgoes
    have m2 : m_I (s_I σ2 21 0) 20 = nI q := by rw [hσ2]; exact e20
    have m3 : m_I (s_I σ2 21 0) 22 = nI q := by rw [hσ2]; exact e22
    refine ⟨pI (pI g1 rd 9 0) rd 11 (nI q), s_I (s_I σ2 21 0) 23 (nI q - nI q), q, q, 0, ?_, ?_, ?_, fun i hi => by rw [pI_keep hi (by omega), pI_keep hi (by omega), I1 i hi], by rw [hg1]; rfl, by rw [hg1]; rfl, ?_, ⟨⟨?_, ?_, ?_, ?_⟩, ⟨?_, ?_, ?_, ?_⟩, ⟨Nat.le_refl _, Nat.le_refl _⟩, Or.inl ⟨rfl, rfl, rfl⟩⟩, q1, ?_⟩
    · rw [hnext]
      unfold X5_next_j185
      rw [e_wk (by exact hT1.1.1), I_pI, if_neg (by rintro ⟨-, k⟩; cases k), g8]
    · rw [hgoes]
      unfold X4_goes_j331
      rw [m2, m3]
    · exact (F1.trans (Fr.pI (W := fun q => q = rd) rfl) (fun _ _ k => k)).trans (Fr.pI (W := fun q => q = rd) rfl) (fun _ _ k => k)
    · exact (hM2.trans (Mf.sI (LI := [21]) (LA := []) (by decide)) (by decide) (fun _ k => k)).trans (Mf.sI (LI := [23]) (LA := []) (by decide)) (by decide) (fun _ k => k)
    · rw [I_pI, if_neg (by rintro ⟨-, k⟩; cases k), I_pI, if_neg (by rintro ⟨-, k⟩; cases k), g8]
    · rw [I_pI, if_neg (by rintro ⟨-, k⟩; cases k), I_pI, if_pos ⟨rfl, rfl⟩]; rfl
    · rw [I_pI, if_neg (by rintro ⟨-, k⟩; cases k), I_pI, if_neg (by rintro ⟨-, k⟩; cases k), g10]
    · rw [I_pI, if_pos ⟨rfl, rfl⟩]
    · exact m2
    · rfl
    · exact m3
    · rw [Nat.sub_self, rI_sI, if_pos rfl, Int32.sub_self]; rfl
    · exact ((hT2.put (k := 9) (σ' := s_I (s_I σ2 21 0) 23 (nI q - nI q)) (by decide) rfl rfl).put (by decide) rfl rfl)
  · rw [if_neg hq] at hc
    have hne1 : ¬ nI (tx q) = -1 := by rw [i_eq, i_n (by omega), k_n1]; omega
    rw [if_neg hq, if_neg hne1, X5_isLetter_l hT1 g8 (by omega), X5_isDigit_l hT1 g8 (by omega), e_ob, e_ob, here_l hT1 g8 (by omega), if_neg hq, e_ob] at hnext
    rw [if_pos (nI_lt (by omega) (by omega)), hc, X4_isLetter_l h255, X4_isDigit_l h255, e_ob, e_ob] at hgoes
    have hqL : q < L := by omega
    have e20' : m_I σ2 20 = nI q := by rw [hσ2]; exact e20
    have e22' : m_I σ2 22 = nI q := by rw [hσ2]; exact e22
    have e24' : m_I σ2 24 = 0 := by rw [hσ2]; exact e24
    have e25' : m_I σ2 25 = nI (tx q) := by rw [hσ2, ← hc]; rfl
    have eL' : m_L σ2 = 0 := by rw [hσ2]; exact eL
    have hsub : ∀ e, q ≤ e → e ≤ L → nI e - nI q = nI (e - q) := fun e k1 k2 => by
      rw [i_eq, i_sub (by rw [i_n (by omega), i_n (by omega)]; omega) (by rw [i_n (by omega), i_n (by omega)]; omega), i_n (by omega), i_n (by omega), i_n (by omega)]
      omega
    have n8 : ∀ k, k ≠ 8 → ∀ (gg : GS) v, gI (pI gg rd k v) rd 8 = gI gg rd 8 := fun k hk gg v => by rw [I_pI, if_neg (by rintro ⟨-, z⟩; exact hk z.symm)]
    by_cases hlet : isL_ (tx q) = true
    · rw [if_pos (show q < L ∧ isL_ (tx q) = true from ⟨hqL, hlet⟩), if_neg nn01] at hnext
      rw [if_pos hlet, if_neg nn01] at hgoes
      obtain ⟨e, σ3, u1, u2, u3, u4, u5, u6, u7, u8⟩ := pass_l hT2 g8 e20' e22' eL' hqL (isL_t.mp hlet)
      refine ⟨pI (pI (pI g1 rd 8 (nI e)) rd 9 1) rd 11 (nI e), s_I (s_I σ3 21 1) 23 (nI (e - q)), q, e, 1, ?_, ?_, ?_, fun i hi => by rw [pI_keep hi (by omega), pI_keep hi (by omega), pI_keep hi (by omega), I1 i hi], by rw [hg1]; rfl, by rw [hg1]; rfl, ?_, ⟨⟨?_, ?_, ?_, ?_⟩, ⟨?_, ?_, ?_, ?_⟩, ⟨by omega, u6⟩, Or.inr (Or.inl ⟨rfl, u5, u7, u8⟩)⟩, q1, ?_⟩
      · rw [hnext, u1, e_ob, e_wk (by exact hT1.1.1)]
        unfold X5_next_j185
        rw [e_wk (by exact hT1.1.1), n8 9 (by decide), I_pI, if_pos ⟨rfl, rfl⟩]
      · rw [hgoes, u2, e_ob]
        unfold X4_goes_j331
        rw [rI_sI, if_neg (by decide), rI_sI, if_neg (by decide), u4, u3.I (by decide), e22', hsub e (by omega) u6]
      · exact ((F1.trans (Fr.pI (W := fun q => q = rd) rfl) (fun _ _ k => k)).trans (Fr.pI (W := fun q => q = rd) rfl) (fun _ _ k => k)).trans (Fr.pI (W := fun q => q = rd) rfl) (fun _ _ k => k)
      · exact ((hM2.trans u3 (by decide) (fun _ k => k)).trans (Mf.sI (LI := [21]) (LA := []) (by decide)) (by decide) (fun _ k => k)).trans (Mf.sI (LI := [23]) (LA := []) (by decide)) (by decide) (fun _ k => k)
      · rw [n8 11 (by decide), n8 9 (by decide), I_pI, if_pos ⟨rfl, rfl⟩]
      · rw [I_pI, if_neg (by rintro ⟨-, k⟩; cases k), I_pI, if_pos ⟨rfl, rfl⟩]; rfl
      · rw [I_pI, if_neg (by rintro ⟨-, k⟩; cases k), I_pI, if_neg (by rintro ⟨-, k⟩; cases k), I_pI, if_neg (by rintro ⟨-, k⟩; cases k), g10]
      · rw [I_pI, if_pos ⟨rfl, rfl⟩]
      · exact u4
      · rfl
      · show m_I σ3 22 = _
        rw [u3.I (by decide), e22']
      · rfl
      · exact ((hT2.put (k := 8) (σ' := s_I (s_I σ3 21 1) 23 (nI (e - q))) (by decide) (show m_I σ3 19 = _ from u3.I (by decide)) (show m_A σ3 14 = _ from u3.Af (by decide))).put (by decide) rfl rfl).put (by decide) rfl rfl
    · rw [if_neg (show ¬ (q < L ∧ isL_ (tx q) = true) from fun k => hlet k.2), if_pos rfl] at hnext
      rw [if_neg hlet, if_pos rfl] at hgoes
      by_cases hdig : isD_ (tx q) = true
      · rw [if_pos (show q < L ∧ isD_ (tx q) = true from ⟨hqL, hdig⟩), if_neg nn01] at hnext
        rw [if_pos hdig, if_neg nn01] at hgoes
        have hTd : TxP (pI g1 rd 12 0) ρ rd a tp L tx σ2 := hT2.put (by decide) rfl rfl
        obtain ⟨e, w, σ3, u1, u2, u3, u4, u5, u6, u7⟩ := digs_l hTd (by rw [n8 12 (by decide), g8]) (by rw [I_pI, if_pos ⟨rfl, rfl⟩]) e20' e22' e24' hqL (isD_t.mp hdig)
        rw [pI_pI] at u1
        refine ⟨pI (pI (pI (pI g1 rd 12 w) rd 8 (nI e)) rd 9 2) rd 11 (nI e), s_I (s_I σ3 21 2) 23 (nI (e - q)), q, e, 2, ?_, ?_, ?_, fun i hi => by rw [pI_keep hi (by omega), pI_keep hi (by omega), pI_keep hi (by omega), pI_keep hi (by omega), I1 i hi], by rw [hg1]; rfl, by rw [hg1]; rfl, ?_, ⟨⟨?_, ?_, ?_, ?_⟩, ⟨?_, ?_, ?_, ?_⟩, ⟨by omega, u6⟩, Or.inr (Or.inr (Or.inl ⟨rfl, u5, fun k => ?_⟩))⟩, q1, ?_⟩
        · rw [hnext, u1, e_ob, e_wk (by exact hT1.1.1)]
          unfold X5_next_j185
          rw [e_wk (by exact hT1.1.1), n8 9 (by decide), I_pI, if_pos ⟨rfl, rfl⟩]
        · rw [hgoes, u2, e_ob]
          unfold X4_goes_j331
          rw [rI_sI, if_neg (by decide), rI_sI, if_neg (by decide), u4, u3.I (by decide), e22', hsub e (by omega) u6]
        · exact (((F1.trans (Fr.pI (W := fun q => q = rd) rfl) (fun _ _ k => k)).trans (Fr.pI (W := fun q => q = rd) rfl) (fun _ _ k => k)).trans (Fr.pI (W := fun q => q = rd) rfl) (fun _ _ k => k)).trans (Fr.pI (W := fun q => q = rd) rfl) (fun _ _ k => k)
        · exact ((hM2.trans u3 (by decide) (fun _ k => k)).trans (Mf.sI (LI := [21]) (LA := []) (by decide)) (by decide) (fun _ k => k)).trans (Mf.sI (LI := [23]) (LA := []) (by decide)) (by decide) (fun _ k => k)
        · rw [n8 11 (by decide), n8 9 (by decide), I_pI, if_pos ⟨rfl, rfl⟩]
        · rw [I_pI, if_neg (by rintro ⟨-, k⟩; cases k), I_pI, if_pos ⟨rfl, rfl⟩]; rfl
        · rw [I_pI, if_neg (by rintro ⟨-, k⟩; cases k), I_pI, if_neg (by rintro ⟨-, k⟩; cases k), I_pI, if_neg (by rintro ⟨-, k⟩; cases k), I_pI, if_neg (by rintro ⟨-, k⟩; cases k), g10]
        · rw [I_pI, if_pos ⟨rfl, rfl⟩]
        · exact u4
        · rfl
        · show m_I σ3 22 = _
          rw [u3.I (by decide), e22']
        · rfl
        · obtain ⟨n, z1, z2, z3⟩ := u7 k
          refine ⟨n, z1, ?_, z3⟩
          rw [I_pI, if_neg (by rintro ⟨-, k⟩; cases k), I_pI, if_neg (by rintro ⟨-, k⟩; cases k), I_pI, if_neg (by rintro ⟨-, k⟩; cases k), I_pI, if_pos ⟨rfl, rfl⟩, z2]
        · exact ((((hT2.put (k := 12) (σ' := s_I (s_I σ3 21 2) 23 (nI (e - q))) (by decide) (show m_I σ3 19 = _ from u3.I (by decide)) (show m_A σ3 14 = _ from u3.Af (by decide))).put (by decide) rfl rfl).put (by decide) rfl rfl).put (by decide) rfl rfl)
      · rw [if_neg (show ¬ (q < L ∧ isD_ (tx q) = true) from fun k => hdig k.2), if_pos rfl] at hnext
        rw [if_neg hdig, if_pos rfl, sigif h255] at hgoes
        obtain ⟨r, v1, v2⟩ := J8_indexOf_l hSig1 (by decide) (by decide) (by decide) h255
        rw [e_rk (by obtain ⟨b, z, -⟩ := hSig1.fct; exact z), v1, e_ob] at hnext
        -- both endings
        have fin : ∀ kd : Nat, (kd = 3 ∧ tx q ∈ sig_ ∨ kd = 4) → X5_next rd g = X5_next_j172 rd rd (nI kd) g1 → X4_goes σ = X4_goes_j328 (nI kd) (s_I σ2 20 (nI q + 1)) → ∃ g' σ' b e kd, X5_next rd g = some g' ∧ X4_goes σ = some σ' ∧ Fr (fun q => q = rd) g g' ∧ (∀ i, i < 8 ∨ 13 ≤ i → gI g' rd i = gI g rd i) ∧ gR g' = gR g ∧ gz g' = gz g ∧ Mf [20, 21, 22, 23, 24, 25] [] σ σ' ∧ TokP g' rd L tx b e kd σ' ∧ p ≤ b ∧ TxP g' ρ rd a tp L tx σ' := by
          intro kd hkd x1 x2
          refine ⟨pI (pI (pI g1 rd 9 (nI kd)) rd 8 (nI (q + 1))) rd 11 (nI (q + 1)), s_I (s_I (s_I σ2 20 (nI (q + 1))) 21 (nI kd)) 23 (nI (q + 1 - q)), q, q + 1, kd, ?_, ?_, ?_, fun i hi => by rw [pI_keep hi (by omega), pI_keep hi (by omega), pI_keep hi (by omega), I1 i hi], by rw [hg1]; rfl, by rw [hg1]; rfl, ?_, ⟨⟨?_, ?_, ?_, ?_⟩, ⟨rfl, rfl, e22', rfl⟩, ⟨by omega, by omega⟩, ?_⟩, q1, ?_⟩
          · rw [x1]
            unfold X5_next_j172 X5_next_j185
            rw [e_wk hT1.1.1, e_wk (by exact hT1.1.1), e_wk (by exact hT1.1.1), n8 9 (by decide), g8, nI_1, I_pI, if_pos ⟨rfl, rfl⟩]
          · rw [x2]
            unfold X4_goes_j328 X4_goes_j331
            rw [nI_1, rI_sI, if_neg (by decide), rI_sI, if_pos rfl, rI_sI, if_neg (by decide), rI_sI, if_neg (by decide), e22', hsub (q + 1) (by omega) (by omega)]
          · exact ((F1.trans (Fr.pI (W := fun q => q = rd) rfl) (fun _ _ k => k)).trans (Fr.pI (W := fun q => q = rd) rfl) (fun _ _ k => k)).trans (Fr.pI (W := fun q => q = rd) rfl) (fun _ _ k => k)
          · exact ((hM2.trans (Mf.sI (LI := [20]) (LA := []) (by decide)) (by decide) (fun _ k => k)).trans (Mf.sI (LI := [21]) (LA := []) (by decide)) (by decide) (fun _ k => k)).trans (Mf.sI (LI := [23]) (LA := []) (by decide)) (by decide) (fun _ k => k)
          · rw [n8 11 (by decide), I_pI, if_pos ⟨rfl, rfl⟩]
          · rw [I_pI, if_neg (by rintro ⟨-, k⟩; cases k), I_pI, if_neg (by rintro ⟨-, k⟩; cases k), I_pI, if_pos ⟨rfl, rfl⟩]
          · rw [I_pI, if_neg (by rintro ⟨-, k⟩; cases k), I_pI, if_neg (by rintro ⟨-, k⟩; cases k), I_pI, if_neg (by rintro ⟨-, k⟩; cases k), g10]
          · rw [I_pI, if_pos ⟨rfl, rfl⟩]
          · rcases hkd with ⟨rfl, hm⟩ | rfl
            · exact Or.inr (Or.inr (Or.inr (Or.inl ⟨rfl, rfl, hm, e25'⟩)))
            · exact Or.inr (Or.inr (Or.inr (Or.inr ⟨rfl, rfl⟩)))
          · exact ((hT2.put (k := 9) (σ' := s_I (s_I (s_I σ2 20 (nI (q + 1))) 21 (nI kd)) 23 (nI (q + 1 - q))) (by decide) rfl rfl).put (by decide) rfl rfl).put (by decide) rfl rfl
        by_cases hm : tx q ∈ sig_
        · rw [if_neg (fun k => (v2.mp k) hm)] at hnext
          rw [if_pos hm] at hgoes
          exact fin 3 (Or.inl ⟨rfl, hm⟩) hnext hgoes
        · rw [if_pos (v2.mpr hm)] at hnext
          rw [if_neg hm] at hgoes
          exact fin 4 (Or.inr rfl) hnext hgoes
end
section
/-! LAWS: known words (own work) -/
set_option maxRecDepth 100000
/-- the model's known words, in its order -/
def wl_ : List (List Nat) := [[115, 101, 101, 110], [119, 97, 115], [114, 105, 110, 103], [116, 101, 110, 116, 104], [109, 97, 114, 107], [105, 110, 99, 104], [111, 102, 102], [104, 111, 108, 101], [102, 114, 111, 109], [103, 111], [115, 116, 97, 121], [98, 101, 104, 105, 110, 100], [104, 105, 109], [104, 101, 114], [108, 97, 103], [119, 114, 105, 115, 116], [101, 121, 101], [115, 104, 111, 119, 115], [104, 97, 110, 100], [97, 110, 100], [111, 114], [110, 111, 116]]
def wd_ (tx : Nat → Nat) (b n : Nat) : List Nat := (List.range n).map (fun i => tx (b + i))
def hw_ (w : List Nat) : Int64 := w.foldl (fun h c => ha_ h (nI c)) 0
def va_ (w : List Nat) : Nat := w.foldl (fun h c => h * 32 + (c - 96)) 0
theorem wd_s {tx : Nat → Nat} {b n : Nat} : wd_ tx b (n + 1) = wd_ tx b n ++ [tx (b + n)] := by
  unfold wd_
  rw [List.range_succ, List.map_append]
  rfl
theorem wd_len {tx : Nat → Nat} {b n : Nat} : (wd_ tx b n).length = n := by unfold wd_; simp
theorem wd_at {tx : Nat → Nat} {b n i : Nat} (h : i < n) : (wd_ tx b n)[i]? = some (tx (b + i)) := by unfold wd_; simp [h]
theorem hl_hw {tx : Nat → Nat} {b : Nat} : ∀ n, hl_ tx b n = hw_ (wd_ tx b n) := by
  intro n
  induction n with
  | zero => rfl
  | succ n ih =>
    rw [wd_s]
    unfold hl_ hw_
    rw [List.foldl_append, ih]
    rfl
theorem lt_c : ∀ c : Fin 123, 97 ≤ c.val → (nI c.val - 96).toInt64 = Int64.ofNat (c.val - 96) := by decide +kernel
theorem or_l {a d : Nat} (ha : a < 2 ^ 58) (hd : d < 32) : (Int64.ofNat a <<< (5 : Int64)) ||| Int64.ofNat d = Int64.ofNat (a * 32 + d) := by
  apply Int64.toBitVec_inj.mp
  rw [Int64.toBitVec_or, Int64.toBitVec_shiftLeft]
  have e5 : (5 : Int64).toBitVec.smod 64 = 5#64 := by decide
  rw [e5]
  have ea : (Int64.ofNat a).toBitVec = BitVec.ofNat 64 a := rfl
  have ed : (Int64.ofNat d).toBitVec = BitVec.ofNat 64 d := rfl
  have es : (Int64.ofNat (a * 32 + d)).toBitVec = BitVec.ofNat 64 (a * 32 + d) := rfl
  rw [ea, ed, es]
  apply BitVec.eq_of_toNat_eq
  rw [BitVec.toNat_or, BitVec.shiftLeft_eq', BitVec.toNat_shiftLeft, BitVec.toNat_ofNat, BitVec.toNat_ofNat, BitVec.toNat_ofNat, BitVec.toNat_ofNat, show 5 % 2 ^ 64 = 5 from rfl, Nat.shiftLeft_eq, Nat.mod_eq_of_lt (show a < 2 ^ 64 by omega), Nat.mod_eq_of_lt (show d < 2 ^ 64 by omega), Nat.mod_eq_of_lt (show a * 32 + d < 2 ^ 64 by omega), Nat.mod_eq_of_lt (show a * 2 ^ 5 < 2 ^ 64 by omega)]
  have h2 := Nat.two_pow_add_eq_or_of_lt (i := 5) (b := d) (by omega) a
  rw [Nat.mul_comm a (2 ^ 5), ← h2]
theorem ha_l {a c : Nat} (ha : a < 2 ^ 58) (hc : 97 ≤ c ∧ c ≤ 122) : ha_ (Int64.ofNat a) (nI c) = Int64.ofNat (a * 32 + (c - 96)) := by
  have h1 := lt_c ⟨c, by omega⟩ hc.1
  simp only at h1
  unfold ha_
  rw [h1, show ((5 : Int32).toInt64 &&& 63) = 5 from by decide]
  exact or_l ha (by omega)
def let_ (w : List Nat) : Prop := ∀ c, c ∈ w → 97 ≤ c ∧ c ≤ 122
theorem hw_va : ∀ w : List Nat, let_ w → w.length ≤ 6 → ∀ (h : Nat) (k : Nat), h < 2 ^ (5 * k) → k + w.length ≤ 6 → w.foldl (fun h c => ha_ h (nI c)) (Int64.ofNat h) = Int64.ofNat (w.foldl (fun h c => h * 32 + (c - 96)) h) ∧ w.foldl (fun h c => h * 32 + (c - 96)) h < 2 ^ (5 * (k + w.length)) := by
  intro w
  induction w with
  | nil => intro _ _ h k hh _; exact ⟨rfl, hh⟩
  | cons c w ih =>
    intro hl hlen h k hh hk
    have hc := hl c (List.mem_cons_self)
    have hk' : k + 1 + w.length ≤ 6 := by have : (c :: w).length = w.length + 1 := rfl; omega
    have hpow : 2 ^ (5 * (k + 1)) = 2 ^ (5 * k) * 32 := by rw [show 5 * (k + 1) = 5 * k + 5 by omega, Nat.pow_add]
    have h58 : 2 ^ (5 * k) ≤ 2 ^ 58 := Nat.pow_le_pow_right (by omega) (by omega)
    have hnew : h * 32 + (c - 96) < 2 ^ (5 * (k + 1)) := by rw [hpow]; omega
    obtain ⟨r1, r2⟩ := ih (fun x hx => hl x (List.mem_cons_of_mem _ hx)) (by have : (c :: w).length = w.length + 1 := rfl; omega) (h * 32 + (c - 96)) (k + 1) hnew hk'
    refine ⟨?_, ?_⟩
    · show w.foldl _ (ha_ (Int64.ofNat h) (nI c)) = Int64.ofNat (w.foldl _ (h * 32 + (c - 96)))
      rw [ha_l (by omega) hc, r1]
    · show w.foldl _ (h * 32 + (c - 96)) < _
      rw [show k + (c :: w).length = k + 1 + w.length by have : (c :: w).length = w.length + 1 := rfl; omega]
      exact r2
/-- the value tells the word -/
def vr_ : List Nat → Nat
  | [] => 0
  | c :: w => vr_ w * 32 + (c - 96)
theorem va_vr (w : List Nat) : va_ w = vr_ w.reverse := by
  unfold va_
  rw [← List.foldr_reverse]
  induction w.reverse with
  | nil => rfl
  | cons c w ih => show (List.foldr _ 0 w) * 32 + (c - 96) = _; rw [ih]; rfl
theorem vr_inj : ∀ s t : List Nat, let_ s → let_ t → vr_ s = vr_ t → s = t := by
  intro s
  induction s with
  | nil =>
    intro t _ ht h
    cases t with
    | nil => rfl
    | cons c t =>
      have := ht c List.mem_cons_self
      have h' : 0 = vr_ t * 32 + (c - 96) := h
      omega
  | cons c s ih =>
    intro t hs ht h
    have hc := hs c List.mem_cons_self
    cases t with
    | nil =>
      have h' : vr_ s * 32 + (c - 96) = 0 := h
      omega
    | cons d t =>
      have hd := ht d List.mem_cons_self
      have h' : vr_ s * 32 + (c - 96) = vr_ t * 32 + (d - 96) := h
      have e1 : c = d := by omega
      have e2 : vr_ s = vr_ t := by omega
      rw [e1, ih t (fun x hx => hs x (List.mem_cons_of_mem _ hx)) (fun x hx => ht x (List.mem_cons_of_mem _ hx)) e2]
theorem hw_inj {v w : List Nat} (hv : let_ v) (hw : let_ w) (lv : v.length ≤ 6) (lw : w.length ≤ 6) (h : hw_ v = hw_ w) : v = w := by
  obtain ⟨a1, a2⟩ := hw_va v hv lv 0 0 (by decide) (by omega)
  obtain ⟨b1, b2⟩ := hw_va w hw lw 0 0 (by decide) (by omega)
  have a1' : hw_ v = Int64.ofNat (va_ v) := a1
  have b1' : hw_ w = Int64.ofNat (va_ w) := b1
  have p : ∀ n, n ≤ 6 → 2 ^ (5 * (0 + n)) ≤ 2 ^ 30 := fun n hn => Nat.pow_le_pow_right (by omega) (by omega)
  have a2' : va_ v < 2 ^ 30 := Nat.lt_of_lt_of_le a2 (p _ lv)
  have b2' : va_ w < 2 ^ 30 := Nat.lt_of_lt_of_le b2 (p _ lw)
  have e : va_ v = va_ w := by
    rw [a1', b1'] at h
    have h2 := congrArg Int64.toInt h
    rw [Int64.toInt_ofNat_of_lt (by omega), Int64.toInt_ofNat_of_lt (by omega)] at h2
    omega
  rw [va_vr, va_vr] at e
  have := vr_inj v.reverse w.reverse (fun c hc => hv c (List.mem_reverse.mp hc)) (fun c hc => hw c (List.mem_reverse.mp hc)) e
  exact List.reverse_inj.mp this
theorem letters_l : ∀ i : Fin 22, X4_letters (nI i.val) = (wl_[i.val]?).map hw_ := by decide +kernel
theorem wl_ok : ∀ w, w ∈ wl_ → w.length ≤ 6 ∧ ∀ c, c ∈ w → 97 ≤ c ∧ c ≤ 122 := by decide
theorem idx_l : ∀ i : Fin 22, (wl_[i.val]?).map (fun w => wl_.idxOf w) = some i.val := by decide +kernel
/-- which known word -/
def ki_ (w : List Nat) : Int32 := if w ∈ wl_ then nI (wl_.idxOf w) else -1
theorem lg0 {x y : Int64} : lg_cmp x y = 0 ↔ x = y := by
  unfold lg_cmp
  by_cases h : x > y
  · rw [if_pos h]
    constructor
    · intro k; exact absurd k (by decide)
    · intro k
      rw [k] at h
      exact absurd h (by rw [gt_iff_lt, Int64.lt_iff_toInt_lt]; omega)
  · rw [if_neg h]
    by_cases h2 : x = y
    · rw [if_pos h2]; exact ⟨fun _ => h2, fun _ => rfl⟩
    · rw [if_neg h2]
      exact ⟨fun k => absurd k (by decide), fun k => absurd k h2⟩
theorem knownWord_l {g : GS} {rd L b e kd : Nat} {tx : Nat → Nat} {σ : MS} (h : TokP g rd L tx b e kd σ) (hL : L ≤ 700) : X4_knownWord σ = some (if kd = 1 then ki_ (wd_ tx b (e - b)) else -1) := by
  obtain ⟨-, ⟨-, m21, -, m23⟩, ⟨hb, he⟩, hk⟩ := h
  have hkd : kd ≤ 4 := by
    rcases hk with ⟨k, -⟩ | ⟨k, -⟩ | ⟨k, -⟩ | ⟨k, -⟩ | ⟨k, -⟩ <;> omega
  unfold X4_knownWord
  rw [m21]
  by_cases h1 : kd = 1
  · rcases hk with ⟨k, -⟩ | ⟨-, hbe, hlet, hmL⟩ | ⟨k, -⟩ | ⟨k, -⟩ | ⟨k, -⟩
    · omega
    · have hletw : let_ (wd_ tx b (e - b)) := fun c hc => by
        unfold wd_ at hc
        obtain ⟨i, hi, rfl⟩ := List.mem_map.mp hc
        have := List.mem_range.mp hi
        exact hlet (b + i) (by omega) (by omega)
      rw [if_pos (by rw [h1]; rfl), if_pos h1, m23]
      by_cases h6 : e - b ≤ 6
      · rw [if_pos (show nI (e - b) ≤ 6 from nI_le (b := 6) h6 (by omega))]
        have hmL' := hmL h6
        rw [hl_hw] at hmL'
        obtain ⟨o, u1, u2⟩ := lp_t (body := fun a => X4_knownWord_b21 σ a)
          (I := fun m a => ∃ i, a = nI i ∧ i ≤ 22 ∧ m = 22 - i ∧ ∀ j, j < i → wl_[j]? ≠ some (wd_ tx b (e - b)))
          (Q := fun o => (∃ i, o = .inl (nI i) ∧ i < 22 ∧ wl_[i]? = some (wd_ tx b (e - b)) ∧ ∀ j, j < i → wl_[j]? ≠ some (wd_ tx b (e - b))) ∨ (o = .inr () ∧ ∀ j, j < 22 → wl_[j]? ≠ some (wd_ tx b (e - b))))
          (by
            rintro m a ⟨i, rfl, i2, i3, i4⟩
            unfold X4_knownWord_b21
            by_cases hi : i < 22
            · have hll := letters_l ⟨i, hi⟩
              simp only at hll
              have hwi : i < wl_.length := hi
              obtain ⟨w, hw⟩ := get_ex (xs := wl_) hwi
              rw [hw] at hll
              have hwm : w ∈ wl_ := List.mem_of_getElem? hw
              obtain ⟨o1, o2⟩ := wl_ok w hwm
              rw [if_neg (show ¬ (22 : Int32) ≤ nI i from nI_ge (b := 22) hi (by omega)), hll, Option.map_some, e_ob, hmL']
              by_cases q : w = wd_ tx b (e - b)
              · rw [if_pos (lg0.mpr (by rw [q]))]
                exact Or.inr ⟨_, rfl, Or.inl ⟨i, rfl, hi, by rw [hw, q], i4⟩⟩
              · rw [if_neg (fun k => q (hw_inj o2 hletw o1 (by rw [wd_len]; exact h6) (lg0.mp k))), nI_1]
                refine Or.inl ⟨_, m - 1, by omega, rfl, i + 1, rfl, by omega, by omega, fun j hj => ?_⟩
                by_cases k : j = i
                · rw [k, hw]
                  exact fun z => q (Option.some.inj z)
                · exact i4 j (by omega)
            · rw [if_pos (show (22 : Int32) ≤ nI i from nI_le (a := 22) (by omega) (by omega))]
              exact Or.inr ⟨_, rfl, Or.inr ⟨rfl, fun j hj => i4 j (by omega)⟩⟩)
          fu_ 22 (nI 0) ⟨0, rfl, by omega, rfl, fun j hj => absurd hj (Nat.not_lt_zero _)⟩ (by unfold fu_; omega)
        rw [show (lp_ (fun a => X4_knownWord_b21 σ a) fu_ 0) = _ from u1, e_ob]
        unfold ki_
        rcases u2 with ⟨i, rfl, hi, hw, hno⟩ | ⟨rfl, hno⟩
        · have hm : wd_ tx b (e - b) ∈ wl_ := List.mem_of_getElem? hw
          rw [if_pos hm]
          show some (nI i) = some (nI (wl_.idxOf (wd_ tx b (e - b))))
          have hx : wl_.idxOf (wd_ tx b (e - b)) = i := by
            have z := idx_l ⟨i, hi⟩
            simp only at z
            rw [hw] at z
            exact Option.some.inj z
          rw [hx]
        · rw [if_neg]
          · rfl
          · intro hm
            obtain ⟨j, hj, hjw⟩ := List.mem_iff_getElem.mp hm
            exact hno j hj (by rw [List.getElem?_eq_getElem hj, hjw])
      · rw [if_neg (show ¬ nI (e - b) ≤ 6 from nI_ge (a := 6) (by omega) (by omega))]
        unfold ki_
        rw [if_neg]
        intro hm
        have := (wl_ok _ hm).1
        rw [wd_len] at this
        omega
    · omega
    · omega
    · omega
  · rw [if_neg (show ¬ nI kd = 1 from fun k => h1 (nI_inj (b := 1) (by omega) (by omega) k)), if_neg h1]
end
section
/-! LAWS: the component's words and signs (own work) -/
set_option maxRecDepth 100000
theorem zc_127 : ∀ c : Fin 128, zc_ (zc_ (((nI c.val &&& 255).toUInt32 % 65536).toInt32)) = nI c.val := by decide +kernel
theorem J8_charAt_l {g : GS} {ρ : Nat → Nat} {q i c : Nat} {cs : List Nat} (h : LitP g ρ q cs) (hS : ∃ d, gS g 5 = d + 1) (hcs : ∀ x, x ∈ cs → x < 128) (hl : cs.length ≤ 100) (hc : cs[i]? = some c) : J8_charAt q (nI i) g = some (nI c) := by
  obtain ⟨b, h1, h2, h3, h4, h5, h6⟩ := h.fct
  obtain ⟨d, hd⟩ := hS
  have hi := (List.getElem?_eq_some_iff.mp hc).1
  have hz := zc_127 ⟨c, hcs c (List.mem_of_getElem? hc)⟩
  simp only at hz
  unfold J8_charAt J9_charAt J8_checkIndex J11_checkIndex
  rw [e_rk h1, J8_isLatin1_l h, e_ob, if_neg nn01, h3, e_nn, e_rk h4, hd, e_nn, h5, show Int32.ofNat cs.length = nI cs.length from rfl, if_neg (nI_pos (by omega)), if_pos (nI_lt hi (by omega)), e_ob, e_ob, e_inN hi (by omega), nI_clamp (by omega), e_ob, h6 i c hc, hz]
theorem is_l {g : GS} {ρ : Nat → Nat} {rd a tp L b e kd q : Nat} {tx : Nat → Nat} {cs : List Nat} {σ : MS} (h : TxP g ρ rd a tp L tx σ) (hT : TokP g rd L tx b e kd σ) (hq : LitP g ρ q cs) (hS : ∃ d, gS g 5 = d + 1) (hcs : ∀ x, x ∈ cs → x < 128) (hl : cs.length ≤ 100) : X5_is rd q g = some (if kd = 1 ∧ wd_ tx b (e - b) = cs then 1 else 0) := by
  obtain ⟨⟨t8, t9, t10, t11⟩, -, ⟨hbe, heL⟩, hk⟩ := hT
  have hkd : kd ≤ 4 := by
    rcases hk with ⟨k, -⟩ | ⟨k, -⟩ | ⟨k, -⟩ | ⟨k, -⟩ | ⟨k, -⟩ <;> omega
  obtain ⟨⟨a1, a2, a3, a4, a5⟩, ⟨b1, b2, b3, b4⟩, ⟨c1, c2, c3, c4, c5⟩, ⟨d1, d2⟩, e1, f1⟩ := id h
  obtain ⟨bb, h1, -⟩ := hq.fct
  unfold X5_is
  rw [e_wk a1, t9]
  by_cases hk1 : kd = 1
  · have hsub : nI e - nI b = nI (e - b) := by
      rw [i_eq, i_sub (by rw [i_n (by omega), i_n (by omega)]; omega) (by rw [i_n (by omega), i_n (by omega)]; omega), i_n (by omega), i_n (by omega), i_n (by omega)]
      omega
    rw [if_pos (by rw [hk1]; rfl), e_rk h1, J8_length_l hq, e_ob, t10, t11, hsub]
    by_cases hlen : cs.length = e - b
    · rw [if_pos (by rw [hlen])]
      obtain ⟨o, u1, u2⟩ := lp_t (body := fun x => X5_is_b28 rd q g x)
        (I := fun m x => ∃ i, x = nI i ∧ i ≤ cs.length ∧ m = cs.length - i ∧ ∀ j, j < i → cs[j]? = some (tx (b + j)))
        (Q := fun o => (o = .inr () ∧ ∀ j, j < cs.length → cs[j]? = some (tx (b + j))) ∨ (o = .inl () ∧ ∃ j, j < cs.length ∧ cs[j]? ≠ some (tx (b + j))))
        (by
          rintro m x ⟨i, rfl, i2, i3, i4⟩
          unfold X5_is_b28
          rw [e_rk h1, J8_length_l hq, e_ob]
          by_cases hi : i < cs.length
          · obtain ⟨c, hc⟩ := get_ex (xs := cs) hi
            rw [if_neg (nI_ge hi (by omega)), J8_charAt_l hq hS hcs hl hc, e_ob, e_wk a1, a5, e_nn, e_wk b1, b4, e_nn, e_rk (by rw [c1]), t10, nI_add, c2, e_inN (by omega) (by omega), nI_clamp (by omega), c5 _ (by omega)]
            have h255 := by_255 ⟨tx (b + i), by have := f1 (b + i); omega⟩
            simp only at h255
            rw [h255]
            have hc128 := hcs c (List.mem_of_getElem? hc)
            have h255' := f1 (b + i)
            by_cases hcc : c = tx (b + i)
            · rw [if_pos (by rw [hcc]), nI_1]
              refine Or.inl ⟨_, m - 1, by omega, rfl, i + 1, rfl, by omega, by omega, fun j hj => ?_⟩
              by_cases k : j = i
              · rw [k, hc, hcc]
              · exact i4 j (by omega)
            · rw [if_neg (fun k => hcc (nI_inj (by omega) (by omega) k))]
              exact Or.inr ⟨_, rfl, Or.inr ⟨rfl, i, hi, by rw [hc]; exact fun k => hcc (Option.some.inj k)⟩⟩
          · rw [if_pos (nI_le (by omega) (by omega))]
            exact Or.inr ⟨_, rfl, Or.inl ⟨rfl, fun j hj => i4 j (by omega)⟩⟩)
        fu_ cs.length (nI 0) ⟨0, rfl, Nat.zero_le _, rfl, fun j hj => absurd hj (Nat.not_lt_zero _)⟩ (by unfold fu_; omega)
      rw [show (lp_ (fun x => X5_is_b28 rd q g x) fu_ 0) = _ from u1, e_ob]
      rcases u2 with ⟨rfl, hall⟩ | ⟨rfl, j, hj, hne⟩
      · have heq : wd_ tx b (e - b) = cs := by
          apply List.ext_getElem?
          intro i
          by_cases hi : i < cs.length
          · rw [hall i hi, wd_at (by omega)]
          · rw [List.getElem?_eq_none (by rw [wd_len]; omega), List.getElem?_eq_none (by omega)]
        rw [if_pos ⟨hk1, heq⟩]
        rfl
      · rw [if_neg]
        · rfl
        · rintro ⟨-, heq⟩
          apply hne
          rw [← heq, wd_at (by omega)]
    · rw [if_neg (fun k => hlen (nI_inj (by omega) (by omega) k)), if_neg]
      rintro ⟨-, heq⟩
      apply hlen
      rw [← heq, wd_len]
  · rw [if_neg (show ¬ nI kd = 1 from fun k => hk1 (nI_inj (b := 1) (by omega) (by omega) k)), if_neg (fun k => hk1 k.1)]
theorem TokP.kd4 {g : GS} {rd L b e kd : Nat} {tx : Nat → Nat} {σ : MS} (hT : TokP g rd L tx b e kd σ) : kd ≤ 4 := by
  obtain ⟨-, -, -, hk⟩ := hT
  rcases hk with ⟨k, -⟩ | ⟨k, -⟩ | ⟨k, -⟩ | ⟨k, -⟩ | ⟨k, -⟩ <;> omega
theorem X5_isSign_l {g : GS} {ρ : Nat → Nat} {rd a tp L b e kd c : Nat} {tx : Nat → Nat} {σ : MS} (h : TxP g ρ rd a tp L tx σ) (hT : TokP g rd L tx b e kd σ) (hc : c < 128) : X5_isSign rd (nI c) g = some (if kd = 3 ∧ tx b = c then 1 else 0) := by
  have hkd := hT.kd4
  obtain ⟨⟨t8, t9, t10, t11⟩, -, ⟨hbe, heL⟩, hk⟩ := hT
  obtain ⟨⟨a1, a2, a3, a4, a5⟩, ⟨b1, b2, b3, b4⟩, ⟨c1, c2, c3, c4, c5⟩, ⟨d1, d2⟩, e1, f1⟩ := id h
  unfold X5_isSign
  rw [e_wk a1, t9]
  by_cases h3 : kd = 3
  · have hb : b < 700 := by
      rcases hk with ⟨k, -⟩ | ⟨k, -⟩ | ⟨k, -⟩ | ⟨k, k2, -⟩ | ⟨k, k2⟩ <;> omega
    rw [if_pos (by rw [h3]; rfl), a5, e_nn, e_wk b1, b4, e_nn, e_rk (by rw [c1]), t10, c2, e_inN hb (by omega), nI_clamp (by omega), c5 b hb]
    by_cases q : tx b = c
    · rw [if_pos ((by_eq hc (f1 b)).mpr q.symm).symm, if_pos ⟨h3, q⟩]
    · rw [if_neg (fun k => q ((by_eq hc (f1 b)).mp k.symm).symm), if_neg (fun k => q k.2)]
  · rw [if_neg (show ¬ nI kd = 3 from fun k => h3 (nI_inj (b := 3) (by omega) (by omega) k)), if_neg (fun k => h3 k.1)]
theorem X4_isSign_l {g : GS} {rd L b e kd c : Nat} {tx : Nat → Nat} {σ : MS} (hT : TokP g rd L tx b e kd σ) (hb : tx b ≤ 255) (hc : c < 128) : X4_isSign (nI c) σ = some (if kd = 3 ∧ tx b = c then 1 else 0) := by
  have hkd := hT.kd4
  obtain ⟨-, ⟨-, m21, -, -⟩, -, hk⟩ := hT
  unfold X4_isSign
  rw [m21]
  by_cases h3 : kd = 3
  · have h25 : m_I σ 25 = nI (tx b) := by
      rcases hk with ⟨k, -⟩ | ⟨k, -⟩ | ⟨k, -⟩ | ⟨k, -, -, k2⟩ | ⟨k, -⟩
      · omega
      · omega
      · omega
      · exact k2
      · omega
    rw [if_pos (by rw [h3]; rfl), h25]
    by_cases q : tx b = c
    · rw [if_pos (by rw [q]), if_pos ⟨h3, q⟩]
    · rw [if_neg (fun k => q (nI_inj (by omega) (by omega) k)), if_neg (fun k => q k.2)]
  · rw [if_neg (show ¬ nI kd = 3 from fun k => h3 (nI_inj (b := 3) (by omega) (by omega) k)), if_neg (fun k => h3 k.1)]
/-- an array of texts -/
def NmP (g : GS) (ρ : Nat → Nat) (q : Nat) (ws : List (List Nat)) : Prop := gK g q % 1000 = 104 ∧ gN g q = ws.length ∧ ∀ i w, ws[i]? = some w → ∃ s, gR g q i = s + 1 ∧ LitP g ρ s w ∧ (∀ x, x ∈ w → x < 128) ∧ w.length ≤ 100
theorem which_l {g : GS} {ρ : Nat → Nat} {rd a tp L b e kd q : Nat} {tx : Nat → Nat} {ws : List (List Nat)} {σ : MS} (h : TxP g ρ rd a tp L tx σ) (hT : TokP g rd L tx b e kd σ) (hq : NmP g ρ q ws) (hS : ∃ d, gS g 5 = d + 1) (hl : ws.length ≤ 100) :
    ∃ r, X5_which rd q g = some r ∧ ((∃ i, r = nI i ∧ kd = 1 ∧ ws[i]? = some (wd_ tx b (e - b)) ∧ ∀ j, j < i → ws[j]? ≠ some (wd_ tx b (e - b))) ∨ (r = -1 ∧ ¬ (kd = 1 ∧ wd_ tx b (e - b) ∈ ws))) := by
  obtain ⟨q1, q2, q3⟩ := hq
  obtain ⟨o, u1, u2⟩ := lp_t (body := fun x => X5_which_b2 rd q g x)
    (I := fun m x => ∃ i, x = nI i ∧ i ≤ ws.length ∧ m = ws.length - i ∧ (kd = 1 → ∀ j, j < i → ws[j]? ≠ some (wd_ tx b (e - b))))
    (Q := fun o => (∃ i, o = .inl (nI i) ∧ kd = 1 ∧ ws[i]? = some (wd_ tx b (e - b)) ∧ ∀ j, j < i → ws[j]? ≠ some (wd_ tx b (e - b))) ∨ (o = .inr () ∧ ¬ (kd = 1 ∧ wd_ tx b (e - b) ∈ ws)))
    (by
      rintro m x ⟨i, rfl, i2, i3, i4⟩
      unfold X5_which_b2
      rw [e_rk q1, q2, show Int32.ofNat ws.length = nI ws.length from rfl]
      by_cases hi : i < ws.length
      · obtain ⟨w, hw⟩ := get_ex (xs := ws) hi
        obtain ⟨s, s1, s2, s3, s4⟩ := q3 i w hw
        rw [if_neg (nI_ge hi (by omega)), e_inN hi (by omega), nI_clamp (by omega), s1, e_nn, e_wk h.1.1, is_l h hT s2 hS s3 s4, e_ob]
        by_cases k : kd = 1 ∧ wd_ tx b (e - b) = w
        · rw [if_pos k, if_neg nn01]
          exact Or.inr ⟨_, rfl, Or.inl ⟨i, rfl, k.1, by rw [hw, k.2], i4 k.1⟩⟩
        · rw [if_neg k, if_pos rfl, nI_1]
          refine Or.inl ⟨_, m - 1, by omega, rfl, i + 1, rfl, by omega, by omega, fun hk j hj => ?_⟩
          by_cases z : j = i
          · rw [z, hw]
            exact fun y => k ⟨hk, (Option.some.inj y).symm⟩
          · exact i4 hk j (by omega)
      · rw [if_pos (nI_le (by omega) (by omega))]
        refine Or.inr ⟨_, rfl, Or.inr ⟨rfl, fun k => ?_⟩⟩
        obtain ⟨j, hj, hjw⟩ := List.mem_iff_getElem.mp k.2
        exact i4 k.1 j (by omega) (by rw [List.getElem?_eq_getElem hj, hjw]))
    fu_ ws.length (nI 0) ⟨0, rfl, Nat.zero_le _, rfl, fun _ j hj => absurd hj (Nat.not_lt_zero _)⟩ (by unfold fu_; omega)
  unfold X5_which
  rw [show (lp_ (fun x => X5_which_b2 rd q g x) fu_ 0) = _ from u1, e_ob]
  rcases u2 with ⟨i, rfl, i1, i2, i3⟩ | ⟨rfl, hno⟩
  · exact ⟨nI i, rfl, Or.inl ⟨i, rfl, i1, i2, i3⟩⟩
  · exact ⟨-1, rfl, Or.inr ⟨rfl, hno⟩⟩
end
section
/-! LAWS: chains, their texts (own work) -/
set_option maxRecDepth 100000
/-- the text b with its bytes in v -/
def SbPe (g : GS) (ρ : Nat → Nat) (r b v : Nat) (ss : List Int32) : Prop :=
  gK g b = 13 ∧ ρ b = r ∧ b < gz g ∧ gI g b 1 = 0 ∧ gI g b 3 = nI ss.length ∧ gR g b 0 = v + 1 ∧ v < gz g ∧ gK g v = 101 ∧ ρ v = r ∧ ss.length ≤ gN g v ∧ gN g v ≤ 5000 ∧ (∀ i s, ss[i]? = some s → gI g v i = s) ∧ (∀ s, s ∈ ss → okS s) ∧ ∀ i, -128 ≤ (gI g v i).toInt ∧ (gI g v i).toInt ≤ 127
theorem SbPe.sb {g : GS} {ρ : Nat → Nat} {r b v : Nat} {ss : List Int32} (h : SbPe g ρ r b v ss) : SbP g ρ r b ss := by
  obtain ⟨h1, h2, h3, h4, h5, h6, h7, h8, h9, h10, h11, h12, -⟩ := h
  exact ⟨h1, h2, h3, h4, h5, v, h6, h7, h8, h9, h10, h11, h12⟩
theorem SbPe.to {W : Nat → Prop} {g g' : GS} {ρ ρ' : Nat → Nat} {r b v : Nat} {ss : List Int32} (h : SbPe g ρ r b v ss) (hF : Fr W g g') (hA : Ag g ρ ρ') (hW : ∀ q, q < gz g → W q → ¬ q = b ∧ ¬ q = v) : SbPe g' ρ' r b v ss := by
  obtain ⟨h1, h2, h3, h4, h5, h6, h7, h8, h9, h10, h11, h12, h13⟩ := h
  have hb : ¬ W b := fun k => (hW b h3 k).1 rfl
  have hv : ¬ W v := fun k => (hW v h7 k).2 rfl
  exact ⟨by rw [hF.K h3, h1], by rw [hA b h3, h2], hF.lt h3, by rw [hF.I h3 hb, h4], by rw [hF.I h3 hb, h5], by rw [hF.R h3 hb, h6], hF.lt h7, by rw [hF.K h7, h8], by rw [hA v h7, h9], by rw [hF.N h7]; exact h10, by rw [hF.N h7]; exact h11, fun i s hs => by rw [hF.I h7 hv]; exact h12 i s hs, h13.1, fun i => by rw [hF.I h7 hv]; exact h13.2 i⟩
theorem okS_b {s : Int32} (h : okS s) : s.toInt8.toInt32.toInt8.toInt32 = s ∧ ¬ (255 : Int32) < s := by
  rcases h with rfl | rfl | rfl | rfl | rfl | rfl | rfl | rfl <;> decide
/-- a new text -/
theorem J14_init_l {g : GS} {ρ : Nat → Nat} {r : Nat} : ∃ g', J14_init (gz g) (nw_ g 13 4) = some (((), g'), 1, 16) ∧ SbPe g' (nr ρ g r) r (gz g) (gz g + 1) [] ∧ Fr no_ g g' ∧ gz g' = gz g + 2 ∧ gN g' (gz g + 1) = 16 := by
  have hz : gz (nw_ g 13 4) = gz g + 1 := rfl
  have hne : ¬ gz g = gz g + 1 := by omega
  refine ⟨pI (pR (nw_ (nw_ g 13 4) 101 16) (gz g) 0 (gz g + 1 + 1)) (gz g) 1 0, ?_, ⟨?_, nr_ge (Nat.le_refl _), ?_, ?_, ?_, ?_, ?_, ?_, nr_ge (by omega), ?_, ?_, fun i s hs => (by cases hs), fun s hs => (by cases hs), fun i => ?_⟩, ?_, ?_, ?_⟩
  · unfold J14_init J13_init
    rw [if_neg (by decide), e_na (by decide), e_al, hz, e_wk (by rw [K_nw, hz, if_neg hne, K_nw, if_pos rfl]), e_b0, e_ca, e_b0]
    rfl
  · rw [K_pI, K_pR, K_nw, hz, if_neg hne, K_nw, if_pos rfl]
  · rw [z_pI, z_pR, z_nw, hz]; omega
  · rw [I_pI, if_pos ⟨rfl, rfl⟩]
  · rw [I_pI, if_neg (by rintro ⟨-, q⟩; cases q), I_pR, I_nw, hz, if_neg hne, I_nw, if_pos rfl]; rfl
  · rw [R_pI, R_pR, if_pos ⟨rfl, rfl⟩]
  · rw [z_pI, z_pR, z_nw, hz]; omega
  · rw [K_pI, K_pR, K_nw, if_pos hz.symm]
  · exact Nat.zero_le _
  · rw [N_pI, N_pR, N_nw, if_pos hz.symm]; omega
  · rw [I_pI, if_neg (by rintro ⟨q, -⟩; omega), I_pR, I_nw, if_pos hz.symm]; decide
  · exact (((Fr.nw (W := no_)).trans (Fr.nw (W := no_)) (fun _ _ k => k)).trans (Fr.pR (W := fun q => q = gz g) rfl) (fun q hq k => by omega)).trans (Fr.pI (W := fun q => q = gz g) rfl) (fun q hq k => by omega)
  · rw [z_pI, z_pR, z_nw, hz]
  · rw [N_pI, N_pR, N_nw, if_pos hz.symm]
theorem fits_b {v : Int32} (h : -128 ≤ v.toInt ∧ v.toInt ≤ 127) : fits .byte (.int v) = true := by
  show (decide (-128 ≤ v) && decide (v ≤ 127)) = true
  have k1 : ((-128 : Int32)).toInt = -128 := by decide
  have k2 : ((127 : Int32)).toInt = 127 := by decide
  rw [Bool.and_eq_true, decide_eq_true_iff, decide_eq_true_iff, i_le, i_le, k1, k2]
  exact h
theorem okS_rg {s : Int32} (h : okS s) : -128 ≤ s.toInt ∧ s.toInt ≤ 127 := by
  rcases h with rfl | rfl | rfl | rfl | rfl | rfl | rfl | rfl <;> decide
/-- the room is made -/
theorem J13_ensure_l {g : GS} {ρ : Nat → Nat} {r b v : Nat} {ss : List Int32} (h : SbPe g ρ r b v ss) (hl : ss.length ≤ 1500) :
    ∃ g' v' dc ds, J13_ensureCapacityInternal b (nI (ss.length + 1)) g = some (((), g'), dc, ds) ∧ SbPe g' (nr ρ g r) r b v' ss ∧ ss.length < gN g' v' ∧ Fr (fun q => q = b) g g' ∧ dc ≤ 1 ∧ ds + 2 * gN g v ≤ 2 * gN g' v' ∧ (gN g' v' ≤ gN g v ∨ gN g' v' ≤ 2 * ss.length + 2) ∧ (v' = v ∨ v' = gz g) := by
  obtain ⟨h1, h2, h3, h4, h5, h6, h7, h8, h9, h10, h11, h12, h13, h14⟩ := id h
  have hs0 : Int32.ofNat (gN g v) >>> ((0 : Int32) &&& 31) = nI (gN g v) := by
    rw [show ((0 : Int32) &&& 31) = 0 from rfl, Int32.shiftRight_zero]; rfl
  have hsub : nI (ss.length + 1) - nI (gN g v) ≤ 0 ↔ ss.length + 1 ≤ gN g v := by
    rw [i_le, i_sub (by rw [i_n (by omega), i_n (by omega)]; omega) (by rw [i_n (by omega), i_n (by omega)]; omega), i_n (by omega), i_n (by omega), k_0]
    omega
  unfold J13_ensureCapacityInternal
  rw [e_wk h1, h6, e_nn, e_rk (by rw [h8]), h4, hs0]
  by_cases hc : ss.length + 1 ≤ gN g v
  · rw [if_pos (hsub.mpr hc)]
    exact ⟨g, v, 0, 0, rfl, h.to (W := no_) Fr.rf nr_ag (fun _ _ k => k.elim), by omega, Fr.rf, by omega, by omega, Or.inl (Nat.le_refl _), Or.inl rfl⟩
  · have hcap : gN g v = ss.length := by omega
    have hnl : J15_newLength (nI (gN g v)) (nI (ss.length + 1) - nI (gN g v)) (nI (gN g v) + 2) = some (nI (2 * ss.length + 2)) := by
      have e1 : nI (ss.length + 1) - nI (gN g v) = nI 1 := by
        rw [hcap, i_eq, i_sub (by rw [i_n (by omega), i_n (by omega)]; omega) (by rw [i_n (by omega), i_n (by omega)]; omega), i_n (by omega), i_n (by omega), i_n (by omega)]
        omega
      have e2 : nI (gN g v) + 2 = nI (ss.length + 2) := by rw [hcap]; exact nI_add ss.length 2
      have e3 : jmax_ (nI 1) (nI (ss.length + 2)) = nI (ss.length + 2) := by
        unfold jmax_
        rw [if_pos (nI_lt (by omega) (by omega))]
      unfold J15_newLength
      rw [e1, e2, e3, hcap, nI_add, if_neg (nI_nle (by omega) (by omega)), if_neg, show ss.length + (ss.length + 2) = 2 * ss.length + 2 by omega]
      rw [i_lt, i_n (by omega)]
      show ¬ (2147483639 : Int) < _
      omega
    have hmaxv : ¬ nI (2 * ss.length + 2) = 2147483647 := by
      rw [i_eq, i_n (by omega)]
      show ¬ (_ : Int) = 2147483647
      omega
    have hsh : ∀ n : Nat, nI n >>> ((0 : Int32) &&& 31) = nI n := fun n => by rw [show ((0 : Int32) &&& 31) = 0 from rfl, Int32.shiftRight_zero]
    have hshl : ∀ n : Nat, nI n <<< ((0 : Int32) &&& 31) = nI n := fun n => by rw [show ((0 : Int32) &&& 31) = 0 from rfl, Int32.shiftLeft_zero]
    have h2l : (2 : Int32) <<< ((0 : Int32) &&& 31) = 2 := by decide
    have hnc : J13_newCapacity b (nI (ss.length + 1)) g = some ((nI (2 * ss.length + 2), g), 0, 0) := by
      unfold J13_newCapacity
      rw [e_wk h1, h6, e_nn, e_rk (by rw [h8]), h4, hshl, h2l]
      show ob_ (J15_newLength (nI (gN g v)) (nI (ss.length + 1) - nI (gN g v)) (nI (gN g v) + 2)) _ = _
      rw [hnl, e_ob, if_neg hmaxv, hsh]
    have hvz : ¬ v = gz g := by omega
    have hbz : ¬ b = gz g := by omega
    obtain ⟨g1, hg1⟩ : ∃ g1, g1 = nw_ g 101 (2 * ss.length + 2) := ⟨_, rfl⟩
    have F1 : Fr no_ g g1 := by rw [hg1]; exact Fr.nw
    have kv1 : gK g1 v = 101 := by rw [F1.K h7, h8]
    have nv1 : gN g1 v = ss.length := by rw [F1.N h7, hcap]
    have kz1 : gK g1 (gz g) = 101 := by rw [hg1, K_nw, if_pos rfl]
    have nz1 : gN g1 (gz g) = 2 * ss.length + 2 := by rw [hg1, N_nw, if_pos rfl]
    have hmin : jmin_ (Int32.ofNat (gN g1 v)) (nI (2 * ss.length + 2)) = nI ss.length := by
      rw [nv1, show Int32.ofNat ss.length = nI ss.length from rfl, jmin_l (by omega) (by omega), Nat.min_eq_left (by omega)]
    have hacB : acB_ g1 v 0 (gz g) 0 (nI ss.length) = true := by
      unfold acB_
      rw [Bool.and_eq_true]
      refine ⟨decide_eq_true ⟨by decide, by decide, nI_pos (by omega), ?_, ?_⟩, ?_⟩
      · rw [nI_clamp (by omega), nv1]; show 0 + ss.length ≤ _; omega
      · rw [nI_clamp (by omega), nz1]; show 0 + ss.length ≤ _; omega
      · rw [List.all_eq_true]
        intro i _
        refine fits_b ?_
        rw [F1.I h7 (fun k => k)]
        exact h14 _
    have hcopy : J16_copyOf_3 v (nI (2 * ss.length + 2)) g = some ((gz g, cI_ g1 v 0 (gz g) 0 ss.length), 1, 2 * ss.length + 2) := by
      unfold J16_copyOf_3
      rw [e_rk (by rw [h8]), hcap, show Int32.ofNat ss.length = nI ss.length from rfl, if_neg (fun k => by have := nI_inj (by omega) (by omega) k; omega), e_na (by rintro (k | k); exact nI_pos (by omega) k; rw [nI_clamp (by omega)] at k; omega), e_al, nI_clamp (by omega), ← hg1, e_rk (by rw [kv1]), hmin, hacB, e_gd, nI_clamp (by omega), e_b0]
      rfl
    obtain ⟨g2, hg2⟩ : ∃ g2, g2 = pR (cI_ g1 v 0 (gz g) 0 ss.length) b 0 (gz g + 1) := ⟨_, rfl⟩
    have F2 : Fr (fun q => q = b) g g2 := by
      rw [hg2]
      exact ((F1.mono (fun _ _ k => k.elim)).trans (Fr.cI (W := fun q => q = gz g) rfl) (fun q hq k => by omega)).trans (Fr.pR (W := fun q => q = b) rfl) (fun _ _ k => k)
    have I2 : ∀ i, gI g2 (gz g) i = if i < ss.length then gI g v i else 0 := fun i => by
      rw [hg2, I_pR, I_cI]
      by_cases q : i < ss.length
      · rw [if_pos ⟨rfl, by omega, by omega⟩, if_pos q, F1.I h7 (fun k => k)]
        congr 1
        omega
      · rw [if_neg (by rintro ⟨-, -, k⟩; omega), if_neg q, hg1, I_nw, if_pos rfl]
    rw [if_neg (fun k => hc (hsub.mp k)), e_nn, hnc, e_ca, e_wk h1, h4, hshl, hcopy, e_ca, e_wk (by rw [K_cI, F1.K h3, h1]), ← hg2, bp_0, e_b0]
    refine ⟨g2, gz g, 1, 2 * ss.length + 2, rfl, ⟨by rw [F2.K h3, h1], by rw [nr_lt h3, h2], F2.lt h3, ?_, ?_, ?_, ?_, ?_, nr_ge (Nat.le_refl _), ?_, ?_, fun i s hs => ?_, h13, fun i => ?_⟩, ?_, F2, Nat.le_refl _, ?_, Or.inr ?_, Or.inr rfl⟩
    · rw [hg2, I_pR, I_cI, if_neg (by rintro ⟨q, -⟩; exact hbz q), F1.I h3 (fun k => k), h4]
    · rw [hg2, I_pR, I_cI, if_neg (by rintro ⟨q, -⟩; exact hbz q), F1.I h3 (fun k => k), h5]
    · rw [hg2, R_pR, if_pos ⟨rfl, rfl⟩]
    · rw [hg2, z_pR, z_cI, hg1, z_nw]; omega
    · rw [hg2, K_pR, K_cI, kz1]
    · rw [hg2, N_pR, N_cI, nz1]; omega
    · rw [hg2, N_pR, N_cI, nz1]; omega
    · have hi := (List.getElem?_eq_some_iff.mp hs).1
      rw [I2, if_pos hi]
      exact h12 i s hs
    · rw [I2]
      by_cases q : i < ss.length
      · rw [if_pos q]; exact h14 i
      · rw [if_neg q]; decide
    · rw [hg2, N_pR, N_cI, nz1]; omega
    · rw [hg2, N_pR, N_cI, nz1]; omega
    · rw [hg2, N_pR, N_cI, nz1]; exact Nat.le_refl _
/-- append: one character more -/
theorem J14_append_l {g : GS} {ρ : Nat → Nat} {r b v : Nat} {c : Int32} {ss : List Int32} (h : SbPe g ρ r b v ss) (hl : ss.length ≤ 1500) (hc : okS c) :
    ∃ g' v' dc ds, J14_append b c g = some ((b, g'), dc, ds) ∧ SbPe g' (nr ρ g r) r b v' (ss ++ [c]) ∧ Fr (fun q => q = b ∨ q = v) g g' ∧ dc ≤ 1 ∧ ds + 2 * gN g v ≤ 2 * gN g' v' ∧ (gN g' v' ≤ gN g v ∨ gN g' v' ≤ 2 * ss.length + 2) := by
  obtain ⟨g1, v1, dc, ds, a1, a2, a3, a4, a5, a6, a7, a8⟩ := J13_ensure_l h hl
  obtain ⟨h1, h2, h3, h4, h5, h6, h7, h8, h9, h10, h11, h12, h13, h14⟩ := a2
  have hk : gK g b = 13 := h.1
  have h5g : gI g b 3 = nI ss.length := h.2.2.2.2.1
  have hbv : ¬ b = v1 := by intro q; rw [q, h8] at h1; cases h1
  obtain ⟨o1, o2⟩ := okS_b hc
  refine ⟨pI (pI g1 b 3 (nI (ss.length + 1))) v1 ss.length c, v1, 0 + 0 + dc, 0 + 0 + ds, ?_, ⟨h1, h2, h3, ?_, ?_, h6, h7, h8, h9, ?_, h11, fun i s hs => ?_, fun s hs => ?_, fun i => ?_⟩, ?_, by omega, by show 0 + 0 + ds + 2 * gN g v ≤ 2 * gN g1 v1; omega, a7⟩
  · unfold J14_append J13_append J13_isLatin1 J9_canEncode_2
    rw [e_wk hk, e_wk hk, h5g, nI_1, a1, e_ca, e_wk h1, if_neg (by decide), e_wk h1, h4, if_pos rfl, e_ob, if_neg nn01, if_neg o2, e_ob, if_neg nn01, h6, e_nn, h5, nI_1, e_wk (by exact h8), N_pI, e_inN a3 (by omega), nI_clamp (by omega), o1, e_b0, e_ca, e_b0]
    simp only [Nat.zero_add]
  · rw [I_pI, if_neg (by rintro ⟨q, -⟩; exact hbv q), I_pI, if_neg (by rintro ⟨-, q⟩; cases q), h4]
  · rw [I_pI, if_neg (by rintro ⟨q, -⟩; exact hbv q), I_pI, if_pos ⟨rfl, rfl⟩]
    simp
  · show (ss ++ [c]).length ≤ gN g1 v1
    simp
    omega
  · rw [I_pI, I_pI]
    rcases Nat.lt_trichotomy i ss.length with q | q | q
    · rw [List.getElem?_append_left q] at hs
      rw [if_neg (by rintro ⟨-, k⟩; omega), if_neg (by rintro ⟨k, -⟩; exact hbv k.symm)]
      exact h12 i s hs
    · subst q
      simp at hs
      rw [if_pos ⟨rfl, rfl⟩]
      exact hs
    · rw [List.getElem?_eq_none (by simp; omega)] at hs
      cases hs
  · rcases List.mem_append.mp hs with q | q
    · exact h13 s q
    · rw [List.mem_singleton.mp q]; exact hc
  · rw [I_pI, I_pI]
    by_cases q : v1 = v1 ∧ i = ss.length
    · rw [if_pos q]; exact okS_rg hc
    · rw [if_neg q, if_neg (by rintro ⟨k, -⟩; exact hbv k.symm)]; exact h14 i
  · refine (a4.mono (fun _ _ k => Or.inl k)).trans ((Fr.pI (W := fun q => q = b ∨ q = v1) (Or.inl rfl)).trans (Fr.pI (W := fun q => q = b ∨ q = v1) (Or.inr rfl)) (fun _ _ k => k)) (fun q hq k => ?_)
    rcases k with k | k
    · exact Or.inl k
    · rcases a8 with e | e
      · rw [k, e]; exact Or.inr rfl
      · omega
end
section
/-! LAWS: chains (own work) -/
set_option maxRecDepth 100000
/-- a chain under construction: its list l (places e) and its text sb (bytes v) -/
def ChPe (g : GS) (ρ : Nat → Nat) (ch l e sb v : Nat) (xs : List Nat) (ss : List Int32) : Prop := (gK g ch = 6 ∧ ρ ch = 12 ∧ ch < gz g ∧ gR g ch 0 = l + 1 ∧ gR g ch 1 = sb + 1) ∧ LiPe g ρ 12 l e xs ∧ SbPe g ρ 12 sb v ss
theorem X7_init_l {g : GS} {ρ : Nat → Nat} {ch x : Nat} (hE : EnE g ρ) (hc : gK g ch = 6) (hr : ρ ch = 12) (hz : ch < gz g) (hx : x < gz g) (hs : g_sto (gK g x % 1000) = true) :
    ∃ g' l e sb v dc ds, X7_init ch x g = some (((), g'), dc, ds) ∧ ChPe g' (nr ρ g 12) ch l e sb v [x] [] ∧ Fr (fun q => q = ch) g g' ∧ dc ≤ 4 ∧ ds ≤ 33 ∧ gN g' v = 16 ∧ gz g ≤ l ∧ gz g ≤ sb ∧ gN g' e ≤ 10 := by
  obtain ⟨g1, e, a1, a2, a3, a4, a5, a6⟩ := J2_init_l hE 12
  obtain ⟨g2, hg2⟩ : ∃ g2, g2 = pR g1 ch 0 (gz g + 1) := ⟨_, rfl⟩
  have F12 : Fr (fun q => q = ch) g1 g2 := by rw [hg2]; exact Fr.pR rfl
  have z2 : gz g2 = gz g + 1 := by rw [hg2]; exact a4
  obtain ⟨g3, b1, b2, b3, b4, b5⟩ := J14_init_l (g := g2) (ρ := nr ρ g 12) (r := 12)
  rw [nr_nr (by omega)] at b2
  obtain ⟨g4, hg4⟩ : ∃ g4, g4 = pR g3 ch 1 (gz g2 + 1) := ⟨_, rfl⟩
  have F34 : Fr (fun q => q = ch) g3 g4 := by rw [hg4]; exact Fr.pR rfl
  have hc1 : gK g1 ch = 6 := by rw [a3.K hz, hc]
  have l1 : ch < gz g1 := by omega
  have l2 : ch < gz g2 := by omega
  have hc3 : gK g3 ch = 6 := by rw [b3.K l2, hg2, K_pR, hc1]
  have l3 : ch < gz g3 := b3.lt l2
  have F24 : Fr (fun q => q = ch) g2 g4 := (b3.mono (fun _ _ k => k.elim)).trans F34 (fun _ _ k => k)
  have hA : Ag g1 (nr ρ g 12) (nr ρ g 12) := Ag.rf
  have hne : ∀ q, gK g1 q ≠ 6 → q < gz g1 → ¬ q = ch := fun q k _ k2 => by rw [k2] at k; exact k hc1
  have he : LiPe g4 (nr ρ g 12) 12 (gz g) e [] := by
    obtain ⟨k1, k2, k3, k4, k5, k6, k7, k8, k9, k10⟩ := a2
    have F14 : Fr (fun q => q = ch) g1 g4 := F12.trans F24 (fun _ _ k => k)
    have nb : ¬ gz g = ch := by omega
    have ne : ¬ e = ch := fun q => by rw [q, hc1] at a6; cases a6
    exact ⟨by rw [F14.K k3, k1], k2, F14.lt k3, by rw [F14.I k3 nb, k4], by rw [F14.R k3 nb, k5], F14.lt k6, by rw [F14.K k6, F14.N k6]; exact k7, Nat.zero_le _, by rw [F14.N k6]; exact k9, fun i y hy => by cases hy⟩
  have hS : ∃ d, gS g4 1 = d + 1 := by
    obtain ⟨⟨d, hd, -⟩, -⟩ := hE
    exact ⟨d, by rw [F24.S, F12.S, a3.S, hd]⟩
  have F04 : Fr (fun q => q = ch) g g4 := ((a3.mono (fun _ _ k => k.elim)).trans F12 (fun _ _ k => k)).trans F24 (fun _ _ k => k)
  obtain ⟨g5, e', dc, ds, d1, d2, d3, d4, d5, d6, d7, d8, d9⟩ := J2_add_l (x := x) he hS (by simp) (F04.lt hx) (by rw [F04.K hx]; exact hs)
  rw [nr_nr F04.z] at d2
  have hzz : ¬ gz g = ch := by omega
  have W5 : ∀ q, (q = gz g ∨ (q = e ∧ gK g4 e = 103)) → q = gz g := fun q k => by
    rcases k with k | ⟨k, k2⟩
    · exact k
    · have le1 : e < gz g1 := a2.2.2.2.2.2.1
      rw [F24.K (F12.lt le1), F12.K le1, a6] at k2
      cases k2
  have d3' : Fr (fun q => q = gz g) g4 g5 := d3.mono (fun q _ k => W5 q k)
  have l4 : ch < gz g4 := F34.lt l3
  have hcg : ¬ ch = gz g := by omega
  have r0 : gR g4 ch 0 = gz g + 1 := by rw [hg4, R_pR, if_neg (by rintro ⟨-, k⟩; cases k), b3.R l2 (fun k => k), hg2, R_pR, if_pos ⟨rfl, rfl⟩]
  have r1 : gR g4 ch 1 = gz g2 + 1 := by rw [hg4, R_pR, if_pos ⟨rfl, rfl⟩]
  have hsb : SbPe g5 (nr ρ g 12) 12 (gz g2) (gz g2 + 1) [] := (b2.to F34 Ag.rf (fun q _ k => ⟨by rw [k]; omega, by rw [k]; omega⟩)).to d3' Ag.rf (fun q _ k => ⟨by rw [k]; omega, by rw [k]; omega⟩)
  have hds : ds ≤ 10 := by have : ([] : List Nat).length = 0 := rfl; omega
  have hN : gN g5 (gz g2 + 1) = 16 := by rw [d3.N (by rw [hg4, z_pR, b4]; omega), hg4, N_pR, b5]
  have hN0 : gN g4 e = 0 := by
    have le1 : e < gz g1 := a2.2.2.2.2.2.1
    rw [F24.N (F12.lt le1), F12.N le1, a5]
  have he10 : gN g5 e' ≤ 10 := by
    rcases d6 with k | k | k
    · omega
    · exact k
    · have : ([] : List Nat).length = 0 := rfl
      omega
  refine ⟨g5, gz g, e', gz g2, gz g2 + 1, 0 + dc + 1 + 1 + 1, 0 + ds + 16 + 4 + 3, ?_, ⟨⟨by rw [d3.K l4, hg4, K_pR, hc3], by rw [nr_lt hz, hr], d3.lt l4, by rw [d3'.R l4 hcg, r0], by rw [d3'.R l4 hcg, r1]⟩, d2, hsb⟩, F04.trans d3' (fun q hq k => by omega), by omega, by omega, hN, Nat.le_refl _, by omega, he10⟩
  unfold X7_init
  rw [e_al, a1, e_ob, e_wk hc1, ← hg2, e_al, b1, e_ca, e_wk hc3, ← hg4, r0, e_nn, e_wk he.1, d1, e_ca, e_bp, e_bp, e_bp, e_bp]
theorem X7_add_l {g : GS} {ρ : Nat → Nat} {ch l e sb v x : Nat} {c : Int32} {xs : List Nat} {ss : List Int32} (h : ChPe g ρ ch l e sb v xs ss) (hS : ∃ d, gS g 1 = d + 1) (hl : xs.length ≤ 1300) (hl2 : ss.length ≤ 1300) (hx : x < gz g) (hs : g_sto (gK g x % 1000) = true) (hc : okS c) :
    ∃ g' e' v' dc ds, X7_add ch c x g = some (((), g'), dc, ds) ∧ ChPe g' (nr ρ g 12) ch l e' sb v' (xs ++ [x]) (ss ++ [c]) ∧ Fr (fun q => q = l ∨ (q = e ∧ gK g e = 103) ∨ q = sb ∨ q = v) g g' ∧ dc ≤ 2 ∧ ds + 4 * gN g e + 2 * gN g v ≤ 4 * gN g' e' + 2 * gN g' v' ∧ (gN g' e' ≤ gN g e ∨ gN g' e' ≤ 10 ∨ 2 * gN g' e' ≤ 20 + 3 * xs.length) ∧ (gN g' v' ≤ gN g v ∨ gN g' v' ≤ 2 * ss.length + 2) := by
  obtain ⟨⟨c1, c2, c3, c4, c5⟩, he, hb⟩ := h
  obtain ⟨g1, v', dc1, ds1, a1, a2, a3, a4, a5, a6⟩ := J14_append_l hb (by omega) hc
  have hKl := he.1
  have hKv : gK g v = 101 := hb.2.2.2.2.2.2.2.1
  have hKs : gK g sb = 13 := hb.1
  have W1 : ∀ q, (q = sb ∨ q = v) → gK g q = 13 ∨ gK g q = 101 := fun q k => by
    rcases k with k | k
    · exact Or.inl (by rw [k, hKs])
    · exact Or.inr (by rw [k, hKv])
  have hKe : gK g e = 103 ∨ gK g e = 1103 := by
    rcases he.2.2.2.2.2.2.1 with ⟨k, -⟩ | ⟨k, -⟩
    · exact Or.inl k
    · exact Or.inr k
  have nl : ¬ (l = sb ∨ l = v) := fun k => by have := W1 l k; omega
  have ne : ¬ (e = sb ∨ e = v) := fun k => by have := W1 e k; omega
  have nch : ¬ (ch = sb ∨ ch = v) := fun k => by have := W1 ch k; omega
  have hA1 : Ag g ρ (nr ρ g 12) := nr_ag
  have he1 : LiPe g1 (nr ρ g 12) 12 l e xs := by
    obtain ⟨k1, k2, k3, k4, k5, k6, k7, k8, k9, k10⟩ := he
    exact ⟨by rw [a3.K k3, k1], by rw [nr_lt k3, k2], a3.lt k3, by rw [a3.I k3 nl, k4], by rw [a3.R k3 nl, k5], a3.lt k6, by rw [a3.K k6, a3.N k6, nr_lt k6]; exact k7, by rw [a3.N k6]; exact k8, by rw [a3.N k6]; exact k9, fun i y hy => by
      obtain ⟨z1, z2, z3⟩ := k10 i y hy
      exact ⟨by rw [a3.R k6 ne, z1], a3.lt z2, by rw [a3.K z2]; exact z3⟩⟩
  obtain ⟨g2, e', dc2, ds2, d1, d2, d3, d4, d5, d6, d7, d8, d9⟩ := J2_add_l (x := x) he1 (by rw [a3.S]; exact hS) hl (a3.lt hx) (by rw [a3.K hx]; exact hs)
  rw [nr_nr a3.z] at d2
  have c1' : gK g1 ch = 6 := by rw [a3.K c3, c1]
  have hke1 : gK g1 e = gK g e := a3.K he.2.2.2.2.2.1
  have W2 : ∀ q, q < gz g1 → (q = l ∨ (q = e ∧ gK g1 e = 103)) → gK g1 q = 12 ∨ gK g1 q = 103 := fun q _ k => by
    rcases k with k | ⟨k, k2⟩
    · exact Or.inl (by rw [k, he1.1])
    · exact Or.inr (by rw [k, k2])
  have nch2 : ¬ (ch = l ∨ (ch = e ∧ gK g1 e = 103)) := fun k => by have := W2 ch (a3.lt c3) k; omega
  have hb2 : SbPe g2 (nr ρ g 12) 12 sb v' (ss ++ [c]) := a2.to d3 Ag.rf (fun q hq k => by
    have := W2 q hq k
    have k1 := a2.1
    have k2 : gK g1 v' = 101 := a2.2.2.2.2.2.2.2.1
    exact ⟨fun z => by rw [z, k1] at this; omega, fun z => by rw [z, k2] at this; omega⟩)
  have hNe : gN g1 e = gN g e := a3.N he.2.2.2.2.2.1
  have hNv : gN g2 v' = gN g1 v' := d3.N a2.2.2.2.2.2.2.1
  refine ⟨g2, e', v', 0 + dc2 + dc1, 0 + ds2 + ds1, ?_, ⟨⟨by rw [d3.K (a3.lt c3), c1'], by rw [nr_lt c3, c2], d3.lt (a3.lt c3), by rw [d3.R (a3.lt c3) nch2, a3.R c3 nch, c4], by rw [d3.R (a3.lt c3) nch2, a3.R c3 nch, c5]⟩, d2, hb2⟩, ?_, by omega, by omega, by omega, by rw [hNv]; exact a6⟩
  · unfold X7_add
    rw [e_wk c1, c5, e_nn, e_wk hKs, a1, e_ca, e_wk c1', a3.R c3 nch, c4, e_nn, e_wk he1.1, d1, e_ca, e_bp, e_bp]
  · refine (a3.mono (fun q _ k => Or.inr (Or.inr k))).trans d3 (fun q hq k => ?_)
    rcases k with k | ⟨k, k2⟩
    · exact Or.inl k
    · exact Or.inr (Or.inl ⟨k, by rw [← hke1]; exact k2⟩)
end
