/-! LAWS: words for reading and writing the pure states, loops (own work) -/
set_option maxRecDepth 100000
theorem rI_sI {σ : MS} {k i : Nat} {v : Int32} : m_I (s_I σ k v) i = if i = k then v else m_I σ i := rfl
theorem rI_sL {σ : MS} {i : Nat} {v : Int64} : m_I (s_L σ v) i = m_I σ i := rfl
theorem rI_sA {σ : MS} {j k i : Nat} {v : Int32} : m_I (s_A σ j k v) i = m_I σ i := rfl
theorem rL_sI {σ : MS} {k : Nat} {v : Int32} : m_L (s_I σ k v) = m_L σ := rfl
theorem rL_sL {σ : MS} {v : Int64} : m_L (s_L σ v) = v := rfl
theorem rL_sA {σ : MS} {j k : Nat} {v : Int32} : m_L (s_A σ j k v) = m_L σ := rfl
theorem rA_sI {σ : MS} {k a i : Nat} {v : Int32} : m_A (s_I σ k v) a i = m_A σ a i := rfl
theorem rA_sL {σ : MS} {a i : Nat} {v : Int64} : m_A (s_L σ v) a i = m_A σ a i := rfl
theorem rA_sA {σ : MS} {j k a i : Nat} {v : Int32} : m_A (s_A σ j k v) a i = if a = j ∧ i = k then v else m_A σ a i := by
  unfold m_A s_A upd
  by_cases h1 : a = j
  · subst h1
    by_cases h2 : i = k
    · simp [h2]
    · simp [h2]
  · simp [h1]
theorem K_pI {g : GS} {a k : Nat} {v : Int32} : gK (pI g a k v) = gK g := rfl
theorem N_pI {g : GS} {a k : Nat} {v : Int32} : gN (pI g a k v) = gN g := rfl
theorem R_pI {g : GS} {a k : Nat} {v : Int32} : gR (pI g a k v) = gR g := rfl
theorem z_pI {g : GS} {a k : Nat} {v : Int32} : gz (pI g a k v) = gz g := rfl
theorem S_pI {g : GS} {a k : Nat} {v : Int32} : gS (pI g a k v) = gS g := rfl
theorem I_pI {g : GS} {a k b i : Nat} {v : Int32} : gI (pI g a k v) b i = if b = a ∧ i = k then v else gI g b i := rfl
theorem K_pR {g : GS} {a k v : Nat} : gK (pR g a k v) = gK g := rfl
theorem N_pR {g : GS} {a k v : Nat} : gN (pR g a k v) = gN g := rfl
theorem I_pR {g : GS} {a k v : Nat} : gI (pR g a k v) = gI g := rfl
theorem z_pR {g : GS} {a k v : Nat} : gz (pR g a k v) = gz g := rfl
theorem S_pR {g : GS} {a k v : Nat} : gS (pR g a k v) = gS g := rfl
theorem R_pR {g : GS} {a k b i v : Nat} : gR (pR g a k v) b i = if b = a ∧ i = k then v else gR g b i := rfl
theorem K_nw {g : GS} {k n b : Nat} : gK (nw_ g k n) b = if b = gz g then k else gK g b := rfl
theorem N_nw {g : GS} {k n b : Nat} : gN (nw_ g k n) b = if b = gz g then n else gN g b := rfl
theorem I_nw {g : GS} {k n b i : Nat} : gI (nw_ g k n) b i = if b = gz g then 0 else gI g b i := by
  show (if b = gz g then (fun _ : Nat => (0 : Int32)) i else gI g b i) = _
  rfl
theorem R_nw {g : GS} {k n b i : Nat} : gR (nw_ g k n) b i = if b = gz g then 0 else gR g b i := rfl
theorem z_nw {g : GS} {k n : Nat} : gz (nw_ g k n) = gz g + 1 := rfl
theorem S_nw {g : GS} {k n : Nat} : gS (nw_ g k n) = gS g := rfl
theorem K_cR {g : GS} {a sp b dp n : Nat} : gK (cR_ g a sp b dp n) = gK g := rfl
theorem N_cR {g : GS} {a sp b dp n : Nat} : gN (cR_ g a sp b dp n) = gN g := rfl
theorem I_cR {g : GS} {a sp b dp n : Nat} : gI (cR_ g a sp b dp n) = gI g := rfl
theorem z_cR {g : GS} {a sp b dp n : Nat} : gz (cR_ g a sp b dp n) = gz g := rfl
theorem S_cR {g : GS} {a sp b dp n : Nat} : gS (cR_ g a sp b dp n) = gS g := rfl
theorem R_cR {g : GS} {a sp b dp n d i : Nat} : gR (cR_ g a sp b dp n) d i = if d = b ∧ dp ≤ i ∧ i < dp + n then gR g a (sp + (i - dp)) else gR g d i := by
  show (if d = b then va_cpy (gR g a) (gR g b) sp dp n i else gR g d i) = _
  unfold va_cpy
  by_cases h : d = b
  · subst h; simp
  · simp [h]
theorem K_cI {g : GS} {a sp b dp n : Nat} : gK (cI_ g a sp b dp n) = gK g := rfl
theorem N_cI {g : GS} {a sp b dp n : Nat} : gN (cI_ g a sp b dp n) = gN g := rfl
theorem R_cI {g : GS} {a sp b dp n : Nat} : gR (cI_ g a sp b dp n) = gR g := rfl
theorem z_cI {g : GS} {a sp b dp n : Nat} : gz (cI_ g a sp b dp n) = gz g := rfl
theorem S_cI {g : GS} {a sp b dp n : Nat} : gS (cI_ g a sp b dp n) = gS g := rfl
theorem I_cI {g : GS} {a sp b dp n d i : Nat} : gI (cI_ g a sp b dp n) d i = if d = b ∧ dp ≤ i ∧ i < dp + n then gI g a (sp + (i - dp)) else gI g d i := by
  show (if d = b then va_cpy (gI g a) (gI g b) sp dp n i else gI g d i) = _
  unfold va_cpy
  by_cases h : d = b
  · subst h; simp
  · simp [h]
theorem K_sk {g : GS} {n : Nat} : gK (sk_ g n) = gK g := rfl
theorem N_sk {g : GS} {n : Nat} : gN (sk_ g n) = gN g := rfl
theorem I_sk {g : GS} {n : Nat} : gI (sk_ g n) = gI g := rfl
theorem R_sk {g : GS} {n : Nat} : gR (sk_ g n) = gR g := rfl
theorem z_sk {g : GS} {n : Nat} : gz (sk_ g n) = gz g + n := rfl
theorem S_sk {g : GS} {n : Nat} : gS (sk_ g n) = gS g := rfl
/-! the printed words, gone through -/
theorem e_wk {β : Type} {g : GS} {a k : Nat} {K : Option β} (h : gK g a = k) : wk_ g a k K = K := if_pos h
theorem e_rk {β : Type} {g : GS} {a k : Nat} {K : Option β} (h : gK g a % 1000 = k) : rk_ g a k K = K := if_pos h
theorem e_nn {β : Type} {b : Nat} {K : Nat → Option β} : nn_ (b + 1) K = K b := rfl
theorem e_nn' {β : Type} {x b : Nat} {K : Nat → Option β} (h : x = b + 1) : nn_ x K = K b := by rw [h]; rfl
theorem e_in {β : Type} {i : Int32} {n : Nat} {K : Option β} (h : ¬ (i < 0 ∨ n ≤ i.toNatClampNeg)) : in_ i n K = K := if_neg h
theorem e_inN {β : Type} {i n : Nat} {K : Option β} (h : i < n) (hn : n < 2 ^ 31) : in_ (nI i) n K = K := if_neg (nI_in h hn)
theorem e_dv {β : Type} {y : Int32} {K : Option β} (h : ¬ y = 0) : dv_ y K = K := if_neg h
theorem e_gd {β : Type} {K : Option β} : gd_ true K = K := rfl
theorem e_ob {α β : Type} {a : α} {K : α → Option β} : ob_ (some a) K = K a := rfl
theorem e_cb {α β S : Type} {a : α} {s : S} {K : α → S → Option β} : cb_ (some (a, s)) K = K a s := rfl
theorem e_ca {α β : Type} {a : α} {g : GS} {c n : Nat} {K : α → GS → Option (β × Nat × Nat)} : ca_ (some ((a, g), c, n)) K = bp_ c n (K a g) := rfl
theorem e_oa {α β : Type} {a : α} {c n : Nat} {K : α → Option (β × Nat × Nat)} : oa_ (some (a, c, n)) K = bp_ c n (K a) := rfl
theorem e_al {β : Type} {g : GS} {k n : Nat} {K : Nat → GS → Option (β × Nat × Nat)} : al_ g k n K = bp_ 1 n (K (gz g) (nw_ g k n)) := rfl
theorem e_bp {α : Type} {c n c' n' : Nat} {o : α} : bp_ c n (some (o, c', n')) = some (o, c' + c, n' + n) := rfl
theorem e_b0 {α : Type} {c n : Nat} {o : α} : bp_ c n (some (o, 0, 0)) = some (o, c, n) := by rw [e_bp, Nat.zero_add, Nat.zero_add]
theorem e_tcl {α β : Type} {a : α} {g : GS} {c k : Nat} {T : Nat × Nat → GS → Option (β × Nat × Nat)} {K : α → GS → Option (β × Nat × Nat)} : tc_ (some ((.inl a, g), c, k)) T K = bp_ c k (K a g) := rfl
theorem e_tcr {α β : Type} {e : Nat × Nat} {g : GS} {c k : Nat} {T : Nat × Nat → GS → Option (β × Nat × Nat)} {K : α → GS → Option (β × Nat × Nat)} : tc_ (some ((.inr e, g), c, k)) T K = bp_ c k (T e g) := rfl
theorem e_na {β : Type} {n : Int32} {K : Option β} (h : ¬ (n < 0 ∨ 134217728 < n.toNatClampNeg)) : na_ n K = K := if_neg h
theorem e_nm {α β : Type} {x : α} {K : α → Option β} : nm_ x K = K x := rfl
theorem bp_0 {α : Type} {x : Option (α × Nat × Nat)} : bp_ 0 0 x = x := by
  cases x with
  | none => rfl
  | some q => rfl
/-! loops that end -/
theorem lp_t {α ε : Type} {body : α → Option (α ⊕ ε)} {I : Nat → α → Prop} {Q : ε → Prop} (h : ∀ k a, I k a → (∃ a' k', k' < k ∧ body a = some (.inl a') ∧ I k' a') ∨ (∃ e, body a = some (.inr e) ∧ Q e)) : ∀ n k a, I k a → k < n → ∃ e, lp_ body n a = some e ∧ Q e := by
  intro n
  induction n with
  | zero => intro k a _ hk; omega
  | succ n ih =>
    intro k a hI hk
    rcases h k a hI with ⟨a', k', hlt, hb, hI'⟩ | ⟨e, hb, hQ⟩
    · obtain ⟨e, h1, h2⟩ := ih k' a' hI' (by omega)
      exact ⟨e, by unfold lp_; rw [hb]; exact h1, h2⟩
    · exact ⟨e, by unfold lp_; rw [hb], hQ⟩
/-- two loops in step -/
theorem lp2_t {α α' ε ε' : Type} {body : α → Option (α ⊕ ε)} {body' : α' → Option (α' ⊕ ε')} {I : Nat → α → α' → Prop} {Q : ε → ε' → Prop}
    (h : ∀ k a b, I k a b → (∃ a' b' k', k' < k ∧ body a = some (.inl a') ∧ body' b = some (.inl b') ∧ I k' a' b') ∨ (∃ e e', body a = some (.inr e) ∧ body' b = some (.inr e') ∧ Q e e')) :
    ∀ n k a b, I k a b → k < n → ∃ e e', lp_ body n a = some e ∧ lp_ body' n b = some e' ∧ Q e e' := by
  intro n
  induction n with
  | zero => intro k a b _ hk; omega
  | succ n ih =>
    intro k a b hI hk
    rcases h k a b hI with ⟨a', b', k', hlt, hb, hb', hI'⟩ | ⟨e, e', hb, hb', hQ⟩
    · obtain ⟨e, e', h1, h1', h2⟩ := ih k' a' b' hI' (by omega)
      exact ⟨e, e', by unfold lp_; rw [hb]; exact h1, by unfold lp_; rw [hb']; exact h1', h2⟩
    · exact ⟨e, e', by unfold lp_; rw [hb], by unfold lp_; rw [hb'], hQ⟩
/-- an allocating loop: what it has spent so far rides along -/
theorem la_t {α ε : Type} {body : α → Option ((α ⊕ ε) × Nat × Nat)} {I : Nat → α → Nat → Nat → Prop} {Q : ε → Nat → Nat → Prop}
    (h : ∀ m a c k, I m a c k → (∃ a' dc dk m', m' < m ∧ body a = some (.inl a', dc, dk) ∧ I m' a' (dc + c) (dk + k)) ∨ (∃ e dc dk, body a = some (.inr e, dc, dk) ∧ Q e (dc + c) (dk + k))) :
    ∀ n m a c k, I m a c k → m < n → ∃ e dc dk, la_ body n a = some (e, dc, dk) ∧ Q e (dc + c) (dk + k) := by
  intro n
  induction n with
  | zero => intro m a c k _ hk; omega
  | succ n ih =>
    intro m a c k hI hk
    rcases h m a c k hI with ⟨a', dc, dk, m', hlt, hb, hI'⟩ | ⟨e, dc, dk, hb, hQ⟩
    · obtain ⟨e, dc', dk', h1, h2⟩ := ih m' a' _ _ hI' (by omega)
      refine ⟨e, dc' + dc, dk' + dk, ?_, ?_⟩
      · unfold la_; rw [hb]; show bp_ dc dk (la_ body n a') = _; rw [h1]; rfl
      · rw [Nat.add_assoc, Nat.add_assoc]; exact h2
    · exact ⟨e, dc, dk, by unfold la_; rw [hb], hQ⟩
/-- an allocating loop in step with a plain one -/
theorem la2_t {α β ε ε' : Type} {body : α → Option ((α ⊕ ε) × Nat × Nat)} {body' : β → Option (β ⊕ ε')} {I : Nat → α → β → Nat → Nat → Prop} {Q : ε → ε' → Nat → Nat → Prop}
    (h : ∀ m a b c k, I m a b c k → (∃ a' b' dc dk m', m' < m ∧ body a = some (.inl a', dc, dk) ∧ body' b = some (.inl b') ∧ I m' a' b' (dc + c) (dk + k)) ∨ (∃ e e' dc dk, body a = some (.inr e, dc, dk) ∧ body' b = some (.inr e') ∧ Q e e' (dc + c) (dk + k))) :
    ∀ n m a b c k, I m a b c k → m < n → ∃ e e' dc dk, la_ body n a = some (e, dc, dk) ∧ lp_ body' n b = some e' ∧ Q e e' (dc + c) (dk + k) := by
  intro n
  induction n with
  | zero => intro m a b c k _ hk; omega
  | succ n ih =>
    intro m a b c k hI hk
    rcases h m a b c k hI with ⟨a', b', dc, dk, m', hlt, hb, hb', hI'⟩ | ⟨e, e', dc, dk, hb, hb', hQ⟩
    · obtain ⟨e, e', dc', dk', h1, h1', h2⟩ := ih m' a' b' _ _ hI' (by omega)
      refine ⟨e, e', dc' + dc, dk' + dk, ?_, ?_, ?_⟩
      · unfold la_; rw [hb]; show bp_ dc dk (la_ body n a') = _; rw [h1]; rfl
      · unfold lp_; rw [hb']; exact h1'
      · rw [Nat.add_assoc, Nat.add_assoc]; exact h2
    · exact ⟨e, e', dc, dk, by unfold la_; rw [hb], by unfold lp_; rw [hb'], hQ⟩
/-- a loop's steps: j of them lead from a to b -/
def LS_ {α ε : Type} (body : α → Option (α ⊕ ε)) (j : Nat) (a b : α) : Prop := ∀ n, lp_ body (n + j) a = lp_ body n b
theorem LS_.rf {α ε : Type} {body : α → Option (α ⊕ ε)} {a : α} : LS_ body 0 a a := fun _ => rfl
theorem LS_.one {α ε : Type} {body : α → Option (α ⊕ ε)} {a b : α} (h : body a = some (.inl b)) : LS_ body 1 a b := fun n => by
  show lp_ body (n + 1) a = _
  rw [lp_, h]
theorem LS_.trans {α ε : Type} {body : α → Option (α ⊕ ε)} {a b c : α} {i j : Nat} (h1 : LS_ body i a b) (h2 : LS_ body j b c) : LS_ body (i + j) a c := fun n => by
  rw [Nat.add_comm i j, ← Nat.add_assoc, h1 (n + j), h2 n]
theorem lp_end {α ε : Type} {body : α → Option (α ⊕ ε)} {a : α} {e : ε} (h : body a = some (.inr e)) (n : Nat) : lp_ body (n + 1) a = some e := by
  rw [lp_, h]
theorem lp_next {α ε : Type} {body : α → Option (α ⊕ ε)} {a b : α} (h : body a = some (.inl b)) (n : Nat) : lp_ body (n + 1) a = lp_ body n b := by
  rw [lp_, h]
/-! numbers -/
theorem i_lt {x y : Int32} : x < y ↔ x.toInt < y.toInt := Int32.lt_iff_toInt_lt
theorem i_le {x y : Int32} : x ≤ y ↔ x.toInt ≤ y.toInt := Int32.le_iff_toInt_le
theorem i_eq {x y : Int32} : x = y ↔ x.toInt = y.toInt := Int32.toInt_inj.symm
theorem i_bm {n : Int} (h1 : -2147483648 ≤ n) (h2 : n ≤ 2147483647) : n.bmod (2 ^ 32) = n := by
  rw [Int.bmod_eq_of_le (by omega) (by omega)]
theorem i_add {x y : Int32} (h1 : -2147483648 ≤ x.toInt + y.toInt) (h2 : x.toInt + y.toInt ≤ 2147483647) : (x + y).toInt = x.toInt + y.toInt := by
  rw [Int32.toInt_add, i_bm h1 h2]
theorem i_sub {x y : Int32} (h1 : -2147483648 ≤ x.toInt - y.toInt) (h2 : x.toInt - y.toInt ≤ 2147483647) : (x - y).toInt = x.toInt - y.toInt := by
  rw [Int32.toInt_sub, i_bm h1 h2]
theorem i_mul {x y : Int32} (h1 : -2147483648 ≤ x.toInt * y.toInt) (h2 : x.toInt * y.toInt ≤ 2147483647) : (x * y).toInt = x.toInt * y.toInt := by
  rw [Int32.toInt_mul, i_bm h1 h2]
theorem i_neg {x : Int32} (h1 : -2147483647 ≤ x.toInt) : (-x).toInt = -x.toInt := by
  have h := Int32.toInt_lt x
  rw [Int32.toInt_neg, i_bm (by omega) (by omega)]
theorem i_rg (x : Int32) : -2147483648 ≤ x.toInt ∧ x.toInt ≤ 2147483647 := by
  have h1 := Int32.toInt_lt x
  have h2 := Int32.le_toInt x
  omega
theorem i_cl (x : Int32) : x.toNatClampNeg = x.toInt.toNat := rfl
theorem i_div {x y : Int32} (h : y ≠ -1) : (x / y).toInt = x.toInt.tdiv y.toInt := Int32.toInt_div_of_ne_right x y h
theorem i_nat {x : Int32} (h : 0 ≤ x.toInt) : ∃ n : Nat, x = nI n ∧ (n : Int) = x.toInt ∧ n < 2147483648 := by
  have h1 := i_rg x
  refine ⟨x.toInt.toNat, ?_, by omega, by omega⟩
  rw [i_eq, nI_toInt (by omega)]
  omega
theorem i_n {n : Nat} (h : n < 2147483648) : (nI n).toInt = (n : Int) := nI_toInt h
