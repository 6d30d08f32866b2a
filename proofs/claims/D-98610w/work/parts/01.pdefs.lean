/-! PURE WORDS (own work) -/
set_option maxRecDepth 100000
/-- the reference object's state: int fields, the long field, int arrays by the field that holds them -/
def MS : Type := (Nat → Int32) × Int64 × (Nat → Nat → Int32)
def m_I (σ : MS) (k : Nat) : Int32 := σ.1 k
def m_L (σ : MS) : Int64 := σ.2.1
def m_A (σ : MS) (j i : Nat) : Int32 := σ.2.2 j i
def s_I (σ : MS) (k : Nat) (v : Int32) : MS := (fun i => if i = k then v else σ.1 i, σ.2.1, σ.2.2)
def s_L (σ : MS) (v : Int64) : MS := (σ.1, v, σ.2.2)
def s_A (σ : MS) (j i : Nat) (v : Int32) : MS := (σ.1, σ.2.1, fun a => if a = j then upd (σ.2.2 j) i v else σ.2.2 a)
def fu_ : Nat := 6000
def zb_ (v : Int32) : Int32 := v &&& 1
def ob_ {α β : Type} (x : Option α) (K : α → Option β) : Option β := match x with
  | some a => K a
  | none => none
def cb_ {α β S : Type} (x : Option (α × S)) (K : α → S → Option β) : Option β := match x with
  | some q => K q.1 q.2
  | none => none
def in_ {β : Type} (i : Int32) (n : Nat) (K : Option β) : Option β := if i < 0 ∨ n ≤ i.toNatClampNeg then none else K
def dv_ {β : Type} (y : Int32) (K : Option β) : Option β := if y = 0 then none else K
def dl_ {β : Type} (y : Int64) (K : Option β) : Option β := if y = 0 then none else K
def gd_ {β : Type} (b : Bool) (K : Option β) : Option β := match b with
  | true => K
  | false => none
def lp_ {α ε : Type} (body : α → Option (α ⊕ ε)) : Nat → α → Option ε
  | 0, _ => none
  | n + 1, a => match body a with
    | none => none
    | some (.inl a') => lp_ body n a'
    | some (.inr e) => some e
def m_isA (k : Nat) : Bool := [8, 9, 10, 11, 12, 13, 14, 18, 43, 44, 45, 46, 47, 48, 49, 50, 51, 52, 53, 54, 55, 57, 58, 61, 62, 63, 70, 71, 72, 75, 77, 82, 83, 84, 85].contains k
def m_len (k : Nat) : Nat := match k with
  | 8 => 12 | 9 => 12 | 10 => 6 | 11 => 6 | 12 => 4 | 13 => 4200 | 14 => 700 | 18 => 3
  | 43 => 12 | 44 => 12 | 45 => 6 | 46 => 6 | 47 => 6 | 48 => 6 | 49 => 4 | 50 => 4200 | 51 => 950 | 52 => 9
  | 53 => 12 | 54 => 12 | 55 => 80 | 57 => 8 | 58 => 950 | 61 => 601 | 62 => 601 | 63 => 601
  | 70 => 3 | 71 => 13 | 72 => 3 | 75 => 16 | 77 => 16 | 82 => 12 | 83 => 80 | 84 => 16 | 85 => 16
  | _ => 0
def m_ok (k : Nat) : Bool := m_isA k && !(k == 52)
def GS : Type := (Nat → Nat) × (Nat → Nat) × (Nat → Nat → Int32) × (Nat → Nat → Nat) × Nat × (Nat → Nat)
def gK (g : GS) : Nat → Nat := g.1
def gN (g : GS) : Nat → Nat := g.2.1
def gI (g : GS) : Nat → Nat → Int32 := g.2.2.1
def gR (g : GS) : Nat → Nat → Nat := g.2.2.2.1
def gz (g : GS) : Nat := g.2.2.2.2.1
def gS (g : GS) : Nat → Nat := g.2.2.2.2.2
def u2_ {α : Type} (f : Nat → Nat → α) (a k : Nat) (v : α) : Nat → Nat → α := fun b i => if b = a ∧ i = k then v else f b i
def pI (g : GS) (a k : Nat) (v : Int32) : GS := (gK g, gN g, u2_ (gI g) a k v, gR g, gz g, gS g)
def pR (g : GS) (a k v : Nat) : GS := (gK g, gN g, gI g, u2_ (gR g) a k v, gz g, gS g)
/-- a new cell of kind k, of n places, all nought -/
def nw_ (g : GS) (k n : Nat) : GS := (fun b => if b = gz g then k else gK g b, fun b => if b = gz g then n else gN g b, fun b i => if b = gz g then 0 else gI g b i, fun b i => if b = gz g then 0 else gR g b i, gz g + 1, gS g)
/-- a copy of the cell a -/
def cl_ (g : GS) (k a : Nat) : GS := (fun b => if b = gz g then k else gK g b, fun b => if b = gz g then gN g a else gN g b, fun b i => if b = gz g then gI g a i else gI g b i, fun b i => if b = gz g then gR g a i else gR g b i, gz g + 1, gS g)
/-- n cells that nobody follows -/
def sk_ (g : GS) (n : Nat) : GS := (gK g, gN g, gI g, gR g, gz g + n, gS g)
def cI_ (g : GS) (a sp b dp n : Nat) : GS := (gK g, gN g, fun d i => if d = b then va_cpy (gI g a) (gI g b) sp dp n i else gI g d i, gR g, gz g, gS g)
def cR_ (g : GS) (a sp b dp n : Nat) : GS := (gK g, gN g, gI g, fun d i => if d = b then va_cpy (gR g a) (gR g b) sp dp n i else gR g d i, gz g, gS g)
def wk_ {β : Type} (g : GS) (a k : Nat) (K : Option β) : Option β := if gK g a = k then K else none
def rk_ {β : Type} (g : GS) (a k : Nat) (K : Option β) : Option β := if gK g a % 1000 = k then K else none
def nn_ {β : Type} (x : Nat) (K : Nat → Option β) : Option β := match x with
  | 0 => none
  | b + 1 => K b
def g_sto (k : Nat) : Bool := [3, 6, 7, 8, 9, 14, 100].contains k
def eo_ (g : GS) (x : Nat) : Bool := x == 0 || g_sto (gK g (x - 1) % 1000)
def g_isF (k : Nat) : Bool := k == 6 || k == 7 || k == 8 || k == 9
def Rs (α : Type) : Type := α × GS × Nat × Nat
def bp_ {α : Type} (c n : Nat) (x : Option (α × Nat × Nat)) : Option (α × Nat × Nat) := match x with
  | some q => some (q.1, q.2.1 + c, q.2.2 + n)
  | none => none
/-- a call that allocates -/
def ca_ {α β : Type} (x : Option ((α × GS) × Nat × Nat)) (K : α → GS → Option (β × Nat × Nat)) : Option (β × Nat × Nat) := match x with
  | some q => bp_ q.2.1 q.2.2 (K q.1.1 q.1.2)
  | none => none
/-- a new cell of kind k with n places -/
def al_ {β : Type} (g : GS) (k n : Nat) (K : Nat → GS → Option (β × Nat × Nat)) : Option (β × Nat × Nat) := bp_ 1 n (K (gz g) (nw_ g k n))
/-- an allocating loop -/
def la_ {α ε : Type} (body : α → Option ((α ⊕ ε) × Nat × Nat)) : Nat → α → Option (ε × Nat × Nat)
  | 0, _ => none
  | n + 1, a => match body a with
    | none => none
    | some (.inl a', c, k) => bp_ c k (la_ body n a')
    | some (.inr e, c, k) => some (e, c, k)
/-- what follows an allocating loop -/
def oa_ {α β : Type} (x : Option (α × Nat × Nat)) (K : α → Option (β × Nat × Nat)) : Option (β × Nat × Nat) := match x with
  | some q => bp_ q.2.1 q.2.2 (K q.1)
  | none => none
def zc_ (v : Int32) : Int32 := v.toUInt32.toUInt16.toUInt32.toInt32
def zy_ (v : Int32) : Int32 := v.toInt8.toInt32
def acB_ (g : GS) (a : Nat) (sp : Int32) (b : Nat) (dp n : Int32) : Bool := decide (¬ sp < 0 ∧ ¬ dp < 0 ∧ ¬ n < 0 ∧ sp.toNatClampNeg + n.toNatClampNeg ≤ gN g a ∧ dp.toNatClampNeg + n.toNatClampNeg ≤ gN g b) && (List.range n.toNatClampNeg).all (fun i => fits .byte (.int (gI g a (sp.toNatClampNeg + i))))
def acR_ (g : GS) (a : Nat) (sp : Int32) (b : Nat) (dp n : Int32) : Bool := decide (¬ sp < 0 ∧ ¬ dp < 0 ∧ ¬ n < 0 ∧ sp.toNatClampNeg + n.toNatClampNeg ≤ gN g a ∧ dp.toNatClampNeg + n.toNatClampNeg ≤ gN g b) && (List.range n.toNatClampNeg).all (fun i => eo_ g (gR g a (sp.toNatClampNeg + i)))
/-- the size of a new array: not below nought, not too large -/
def na_ {β : Type} (n : Int32) (K : Option β) : Option β := if n < 0 ∨ 134217728 < n.toNatClampNeg then none else K
def jmax_ (x y : Int32) : Int32 := if x < y then y else x
def jmin_ (x y : Int32) : Int32 := if y < x then y else x
def jabs_ (x : Int32) : Int32 := if 0 ≤ x then x else 0 - x
def nm_ {α β : Type} (x : α) (K : α → Option β) : Option β := K x
/-- a call that may throw -/
def tc_ {α β : Type} (x : Option (((α ⊕ (Nat × Nat)) × GS) × Nat × Nat)) (T : Nat × Nat → GS → Option (β × Nat × Nat)) (K : α → GS → Option (β × Nat × Nat)) : Option (β × Nat × Nat) := match x with
  | some ((.inl a, g), c, k) => bp_ c k (K a g)
  | some ((.inr e, g), c, k) => bp_ c k (T e g)
  | none => none
