/-! LAWS: the scene: where she is, whose face it is (own work) -/
set_option maxRecDepth 100000
/-- from σ to σ': no field but those of LI, no array but those of LA has changed -/
def Mf (LI LA : List Nat) (σ σ' : MS) : Prop := (∀ k, k ∉ LI → m_I σ' k = m_I σ k) ∧ ∀ j, j ∉ LA → ∀ i, m_A σ' j i = m_A σ j i
theorem get_ex {α : Type} {xs : List α} {k : Nat} (h : k < xs.length) : ∃ y, xs[k]? = some y := ⟨xs[k], List.getElem?_eq_getElem h⟩
theorem Mf.rf {LI LA : List Nat} {σ : MS} : Mf LI LA σ σ := ⟨fun _ _ => rfl, fun _ _ _ => rfl⟩
theorem Mf.I {LI LA : List Nat} {σ σ' : MS} (h : Mf LI LA σ σ') {k : Nat} (hk : k ∉ LI) : m_I σ' k = m_I σ k := h.1 k hk
theorem Mf.A {LI LA : List Nat} {σ σ' : MS} (h : Mf LI LA σ σ') {j : Nat} (hj : j ∉ LA) (i : Nat) : m_A σ' j i = m_A σ j i := h.2 j hj i
theorem Mf.Af {LI LA : List Nat} {σ σ' : MS} (h : Mf LI LA σ σ') {j : Nat} (hj : j ∉ LA) : m_A σ' j = m_A σ j := funext (h.2 j hj)
theorem Mf.trans {LI LA LI' LA' : List Nat} {σ σ1 σ2 : MS} (h1 : Mf LI LA σ σ1) (h2 : Mf LI' LA' σ1 σ2) (hI : ∀ k, k ∈ LI' → k ∈ LI) (hA : ∀ k, k ∈ LA' → k ∈ LA) : Mf LI LA σ σ2 :=
  ⟨fun k hk => (h2.I (fun q => hk (hI k q))).trans (h1.I hk), fun j hj i => (h2.A (fun q => hj (hA j q)) i).trans (h1.A hj i)⟩
theorem Mf.mono {LI LA LI' LA' : List Nat} {σ σ' : MS} (h : Mf LI' LA' σ σ') (hI : ∀ k, k ∈ LI' → k ∈ LI) (hA : ∀ k, k ∈ LA' → k ∈ LA) : Mf LI LA σ σ' := Mf.rf.trans h hI hA
theorem Mf.sI {LI LA : List Nat} {σ : MS} {k : Nat} {v : Int32} (h : k ∈ LI) : Mf LI LA σ (s_I σ k v) := by
  refine ⟨fun i hi => ?_, fun _ _ _ => rfl⟩
  rw [rI_sI, if_neg]
  rintro rfl
  exact hi h
theorem Mf.sL {LI LA : List Nat} {σ : MS} {v : Int64} : Mf LI LA σ (s_L σ v) := ⟨fun _ _ => rfl, fun _ _ _ => rfl⟩
theorem Mf.sA {LI LA : List Nat} {σ : MS} {j k : Nat} {v : Int32} (h : j ∈ LA) : Mf LI LA σ (s_A σ j k v) := by
  refine ⟨fun _ _ => rfl, fun a ha i => ?_⟩
  rw [rA_sA, if_neg]
  rintro ⟨rfl, -⟩
  exact ha h
/-! pairs of numbers in a list -/
def PrP (g : GS) (ρ : Nat → Nat) (xs : List Nat) (f h : Nat → Int32) : Prop := ∀ i y, xs[i]? = some y → gK g y = 100 ∧ gN g y = 2 ∧ ρ y = 0 ∧ gI g y 0 = f i ∧ gI g y 1 = h i ∧ y < gz g
theorem PrP.to {W : Nat → Prop} {g g' : GS} {ρ ρ' : Nat → Nat} {xs : List Nat} {f h : Nat → Int32} (hp : PrP g ρ xs f h) (hF : Fr W g g') (hA : Ag g ρ ρ') (hW : ∀ q, q < gz g → ρ q = 0 → ¬ W q) : PrP g' ρ' xs f h := by
  intro i y hy
  obtain ⟨a, b, c, d, e, k⟩ := hp i y hy
  exact ⟨by rw [hF.K k, a], by rw [hF.N k, b], by rw [hA y k, c], by rw [hF.I k (hW y k c), d], by rw [hF.I k (hW y k c), e], hF.lt k⟩
theorem PrP.re {g : GS} {ρ ρ' : Nat → Nat} {xs : List Nat} {f h : Nat → Int32} (hp : PrP g ρ xs f h) (h0 : ∀ q, q < gz g → ρ q = 0 → ρ' q = 0) : PrP g ρ' xs f h := by
  intro i y hy
  obtain ⟨a, b, c, d, e, k⟩ := hp i y hy
  exact ⟨a, b, h0 y k c, d, e, k⟩
theorem PrP.congr {g : GS} {ρ : Nat → Nat} {xs : List Nat} {f h f' h' : Nat → Int32} (hp : PrP g ρ xs f h) (hf : ∀ i, i < xs.length → f' i = f i) (hh : ∀ i, i < xs.length → h' i = h i) : PrP g ρ xs f' h' := by
  intro i y hy
  obtain ⟨a, b, c, d, e, k⟩ := hp i y hy
  have hi := (List.getElem?_eq_some_iff.mp hy).1
  exact ⟨a, b, c, by rw [hf i hi, d], by rw [hh i hi, e], k⟩
/-- a list of pairs behind the field fld of the object o -/
def PlP (g : GS) (ρ : Nat → Nat) (r o fld n : Nat) (f h : Nat → Int32) : Prop := ∃ l xs, gR g o fld = l + 1 ∧ LiP g ρ r l xs ∧ xs.length = n ∧ PrP g ρ xs f h
theorem PlP.to {W : Nat → Prop} {g g' : GS} {ρ ρ' : Nat → Nat} {r o fld n : Nat} {f h : Nat → Int32} (hp : PlP g ρ r o fld n f h) (ho : o < gz g) (hoW : ¬ W o) (hF : Fr W g g') (hA : Ag g ρ ρ') (hW : ∀ q, q < gz g → ρ q = r ∨ ρ q = 0 → ¬ W q) : PlP g' ρ' r o fld n f h := by
  obtain ⟨l, xs, a, b, c, d⟩ := hp
  exact ⟨l, xs, by rw [hF.R ho hoW, a], b.to hF hA hW, c, d.to hF hA (fun q hq k => hW q hq (Or.inr k))⟩
/-! where she is -/
def hr_ (G L : Nat → Int32) : Nat → Nat → Int32 → Int32 → Int32
  | 0, _, a, _ => a
  | n + 1, k, a, t => if t < L k then a + ((G k - a) * t) / L k else hr_ G L n (k + 1) (G k) (t - L k)
def sm_ (L : Nat → Int32) : Nat → Int32
  | 0 => 0
  | n + 1 => sm_ L n + L n
def mvN (G L : Nat → Int32) (n : Nat) : Prop := ∀ i, i < n → (12 ≤ (G i).toInt ∧ (G i).toInt ≤ 480) ∧ 1 ≤ (L i).toInt ∧ (L i).toInt ≤ 99
theorem tdiv_rg {p t l : Int} (h0 : 0 ≤ t) (h1 : t ≤ l) (hl : 0 < l) : (0 ≤ p → 0 ≤ (p * t).tdiv l ∧ (p * t).tdiv l ≤ p) ∧ (p ≤ 0 → p ≤ (p * t).tdiv l ∧ (p * t).tdiv l ≤ 0) := by
  have pos : ∀ q : Int, 0 ≤ q → 0 ≤ (q * t).tdiv l ∧ (q * t).tdiv l ≤ q := by
    intro q hq
    have h2 : 0 ≤ q * t := Int.mul_nonneg hq h0
    rw [Int.tdiv_eq_ediv_of_nonneg h2]
    refine ⟨Int.ediv_nonneg h2 (by omega), ?_⟩
    have h3 : q * t ≤ q * l := Int.mul_le_mul_of_nonneg_left h1 hq
    calc (q * t) / l ≤ (q * l) / l := Int.ediv_le_ediv hl h3
      _ = q := Int.mul_ediv_cancel q (by omega)
  refine ⟨pos p, fun hp => ?_⟩
  have h2 := pos (-p) (by omega)
  have h3 : (-p * t).tdiv l = -((p * t).tdiv l) := by rw [Int.neg_mul, Int.neg_tdiv]
  rw [h3] at h2
  omega
theorem mul_rg {a b A B : Int} (ha : -A ≤ a) (ha' : a ≤ A) (hb : 0 ≤ b) (hb' : b ≤ B) (hA : 0 ≤ A) : -(A * B) ≤ a * b ∧ a * b ≤ A * B := by
  have h1 : A * b ≤ A * B := Int.mul_le_mul_of_nonneg_left hb' hA
  have h2 : a * b ≤ A * b := Int.mul_le_mul_of_nonneg_right ha' hb
  have h3 : -A * b ≤ a * b := Int.mul_le_mul_of_nonneg_right ha hb
  rw [Int.neg_mul] at h3
  omega
/-- a step of the way: its place lies between the two ends -/
theorem hr_step {G a t L : Int32} (hG : 12 ≤ G.toInt ∧ G.toInt ≤ 480) (ha : 12 ≤ a.toInt ∧ a.toInt ≤ 480) (h0 : 0 ≤ t.toInt) (h1 : t.toInt ≤ L.toInt) (hL : 1 ≤ L.toInt ∧ L.toInt ≤ 99) :
    (a + ((G - a) * t) / L).toInt = a.toInt + ((G.toInt - a.toInt) * t.toInt).tdiv L.toInt ∧ 12 ≤ (a + ((G - a) * t) / L).toInt ∧ (a + ((G - a) * t) / L).toInt ≤ 480 := by
  have e1 : (G - a).toInt = G.toInt - a.toInt := i_sub (by omega) (by omega)
  have hm := mul_rg (a := G.toInt - a.toInt) (b := t.toInt) (A := 468) (B := 99) (by omega) (by omega) h0 (by omega) (by omega)
  have e2 : ((G - a) * t).toInt = (G.toInt - a.toInt) * t.toInt := by rw [i_mul (by rw [e1]; omega) (by rw [e1]; omega), e1]
  have hne : L ≠ -1 := by
    intro h
    rw [h] at hL
    have : ((-1 : Int32)).toInt = -1 := by decide
    omega
  have e3 : (((G - a) * t) / L).toInt = ((G.toInt - a.toInt) * t.toInt).tdiv L.toInt := by rw [i_div hne, e2]
  have hd := tdiv_rg (p := G.toInt - a.toInt) h0 h1 (by omega)
  have hb : 12 - a.toInt ≤ ((G.toInt - a.toInt) * t.toInt).tdiv L.toInt ∧ ((G.toInt - a.toInt) * t.toInt).tdiv L.toInt ≤ 480 - a.toInt := by
    rcases Int.le_total 0 (G.toInt - a.toInt) with h | h
    · have := hd.1 h; omega
    · have := hd.2 h; omega
  have e4 : (a + ((G - a) * t) / L).toInt = a.toInt + ((G.toInt - a.toInt) * t.toInt).tdiv L.toInt := by rw [i_add (by rw [e3]; omega) (by rw [e3]; omega), e3]
  exact ⟨e4, by omega, by omega⟩
theorem hr_rg {G L : Nat → Int32} : ∀ (n k : Nat) (a t : Int32), (∀ i, k ≤ i → i < k + n → (12 ≤ (G i).toInt ∧ (G i).toInt ≤ 480) ∧ 1 ≤ (L i).toInt ∧ (L i).toInt ≤ 99) → 12 ≤ a.toInt ∧ a.toInt ≤ 480 → 0 ≤ t.toInt → 12 ≤ (hr_ G L n k a t).toInt ∧ (hr_ G L n k a t).toInt ≤ 480 := by
  intro n
  induction n with
  | zero => intro k a t _ ha _; exact ha
  | succ n ih =>
    intro k a t hN ha ht
    obtain ⟨hG, hL⟩ := hN k (Nat.le_refl _) (by omega)
    unfold hr_
    by_cases h : t < L k
    · rw [if_pos h]
      rw [i_lt] at h
      exact (hr_step hG ha ht (by omega) hL).2
    · rw [if_neg h]
      rw [i_lt] at h
      have e : (t - L k).toInt = t.toInt - (L k).toInt := by
        have := i_rg t
        exact i_sub (by omega) (by omega)
      exact ih (k + 1) (G k) (t - L k) (fun i h1 h2 => hN i (by omega) (by omega)) hG (by omega)
/-- at the end of a step: the next begins -/
theorem hr_at {G L : Nat → Int32} {n k : Nat} {a t : Int32} (hN : ∀ i, k ≤ i → i < k + (n + 1) → (12 ≤ (G i).toInt ∧ (G i).toInt ≤ 480) ∧ 1 ≤ (L i).toInt ∧ (L i).toInt ≤ 99) (ha : 12 ≤ a.toInt ∧ a.toInt ≤ 480) (ht : t = L k) : hr_ G L (n + 1) k a t = a + ((G k - a) * t) / L k := by
  obtain ⟨hG, hL⟩ := hN k (Nat.le_refl _) (by omega)
  subst ht
  have h1 := hr_step hG ha (by omega) (Int.le_refl _) hL
  have e : a + ((G k - a) * L k) / L k = G k := by
    rw [i_eq, h1.1, Int.mul_tdiv_cancel _ (by omega)]; omega
  rw [e]
  unfold hr_
  rw [if_neg (by rw [i_lt]; omega)]
  have e0 : L k - L k = 0 := by rw [Int32.sub_self]
  rw [e0]
  cases n with
  | zero => rfl
  | succ n =>
    unfold hr_
    obtain ⟨hG1, hL1⟩ := hN (k + 1) (by omega) (by omega)
    rw [if_pos (by rw [i_lt]; show (0 : Int) < _; omega)]
    rw [i_eq]
    have h2 := hr_step hG1 hG (t := 0) (L := L (k + 1)) (Int.le_refl _) (by show (0 : Int) ≤ _; omega) hL1
    rw [h2.1]
    show (G k).toInt + (((G (k + 1)).toInt - (G k).toInt) * 0).tdiv _ = _
    rw [Int.mul_zero, Int.zero_tdiv]; omega
theorem X4_herIn_l {σ : MS} {n : Nat} (hn : m_I σ 2 = nI n) (hn12 : n ≤ 12) (hN : mvN (m_A σ 8) (m_A σ 9) n) (hf : 12 ≤ (m_I σ 1).toInt ∧ (m_I σ 1).toInt ≤ 480) {t : Int32} (ht : 0 ≤ t.toInt) : X4_herIn t σ = some (hr_ (m_A σ 8) (m_A σ 9) n 0 (m_I σ 1) t) := by
  obtain ⟨e, h1, h2⟩ : ∃ e, lp_ (fun a : Int32 × Int32 × Int32 => X4_herIn_b10 σ a.1 a.2.1 a.2.2) fu_ (m_I σ 1, t, 0) = some e ∧ Sum.elim (fun e6a : Int32 × Int32 × Int32 => in_ e6a.2.2 12 <| in_ e6a.2.2 12 <| dv_ (m_A σ 9 e6a.2.2.toNatClampNeg) <| some (e6a.1 + ((((m_A σ 8 e6a.2.2.toNatClampNeg) - e6a.1) * e6a.2.1) / (m_A σ 9 e6a.2.2.toNatClampNeg)))) (fun e6b => some e6b) e = some (hr_ (m_A σ 8) (m_A σ 9) n 0 (m_I σ 1) t) := by
    refine lp_t (I := fun r a => ∃ k, a.2.2 = nI k ∧ k ≤ n ∧ r = n - k ∧ (12 ≤ a.1.toInt ∧ a.1.toInt ≤ 480) ∧ 0 ≤ a.2.1.toInt ∧ hr_ (m_A σ 8) (m_A σ 9) (n - k) k a.1 a.2.1 = hr_ (m_A σ 8) (m_A σ 9) n 0 (m_I σ 1) t) ?_ fu_ n _ ⟨0, rfl, Nat.zero_le _, rfl, hf, ht, rfl⟩ (by unfold fu_; omega)
    rintro r ⟨a, t', x4⟩ ⟨k, e1, e2, e3, e4, e5, e6⟩
    simp only at e1 e4 e5 e6 ⊢
    subst e1
    by_cases hk : k < n
    · obtain ⟨hG, hL⟩ := hN k hk
      obtain ⟨d, hd⟩ : ∃ d, n - k = d + 1 := ⟨n - k - 1, by omega⟩
      by_cases hlt : m_A σ 9 k < t'
      · have hlt' := hlt
        rw [i_lt] at hlt'
        have hs : (t' - m_A σ 9 k).toInt = t'.toInt - (m_A σ 9 k).toInt := by
          have := i_rg t'
          exact i_sub (by omega) (by omega)
        refine Or.inl ⟨(m_A σ 8 k, t' - m_A σ 9 k, nI k + 1), r - 1, by omega, ?_, k + 1, nI_1 k, by omega, by omega, hG, by show 0 ≤ (t' - m_A σ 9 k).toInt; omega, ?_⟩
        · unfold X4_herIn_b10
          rw [hn, if_neg (nI_ge hk (by omega)), e_inN (by omega) (by omega), nI_clamp (by omega), if_pos hlt, e_inN (by omega) (by omega), e_inN (by omega) (by omega)]
        · rw [← e6, hd]
          show hr_ _ _ (n - (k + 1)) (k + 1) (m_A σ 8 k) (t' - m_A σ 9 k) = hr_ _ _ (d + 1) k a t'
          rw [hr_, if_neg (by rw [i_lt]; omega)]
          congr 1
          omega
      · refine Or.inr ⟨.inl (a, t', nI k), ?_, ?_⟩
        · unfold X4_herIn_b10
          rw [hn, if_neg (nI_ge hk (by omega)), e_inN (by omega) (by omega), nI_clamp (by omega), if_neg hlt]
        · show in_ (nI k) 12 _ = _
          rw [e_inN (by omega) (by omega), e_inN (by omega) (by omega), nI_clamp (by omega), e_dv]
          · rw [← e6, hd]
            by_cases heq : t' = m_A σ 9 k
            · rw [hr_at (fun i h1 h2 => hN i (by omega)) e4 heq]
            · rw [hr_, if_pos]
              rw [i_lt] at hlt ⊢
              rw [i_eq] at heq
              omega
          · intro h0
            rw [h0] at hL
            have : ((0 : Int32)).toInt = 0 := by decide
            omega
    · have hkn : k = n := by omega
      refine Or.inr ⟨.inr a, ?_, ?_⟩
      · unfold X4_herIn_b10
        rw [hn, if_pos (nI_le (by omega) (by omega))]
      · show some a = _
        rw [← e6, hkn, Nat.sub_self]
        rfl
  unfold X4_herIn
  rw [h1, e_ob, h2]
theorem X2_her_l {g : GS} {ρ : Nat → Nat} {r sc n : Nat} {G L : Nat → Int32} (hsc : gK g sc = 2) (hp : PlP g ρ r sc 0 n G L) (hn12 : n ≤ 12) (hN : mvN G L n) {t : Int32} (ht : 0 ≤ t.toInt) : X2_her sc t g = some (hr_ G L n 0 (gI g sc 5) t) := by
  obtain ⟨l, xs, hl, hL, hlen, hx⟩ := hp
  obtain ⟨e, h1, h2⟩ : ∃ e, lp_ (fun a : Int32 × Int32 × Int32 => X2_her_b10 sc g a.1 a.2.1 a.2.2) fu_ (gI g sc 5, t, 0) = some e ∧ Sum.elim (fun e19a : Int32 × Int32 × Nat => rk_ g e19a.2.2 100 <| in_ 0 (gN g e19a.2.2) <| in_ 1 (gN g e19a.2.2) <| dv_ (gI g e19a.2.2 (1 : Int32).toNatClampNeg) <| some (e19a.1 + ((((gI g e19a.2.2 (0 : Int32).toNatClampNeg) - e19a.1) * e19a.2.1) / (gI g e19a.2.2 (1 : Int32).toNatClampNeg)))) (fun e19b => some e19b) e = some (hr_ G L n 0 (gI g sc 5) t) := by
    refine lp_t (I := fun r a => ∃ k, a.2.2 = nI k ∧ k ≤ n ∧ r = n - k ∧ 0 ≤ a.2.1.toInt ∧ hr_ G L (n - k) k a.1 a.2.1 = hr_ G L n 0 (gI g sc 5) t) ?_ fu_ n _ ⟨0, rfl, Nat.zero_le _, rfl, ht, rfl⟩ (by unfold fu_; omega)
    rintro r ⟨a, t', x4⟩ ⟨k, e1, e2, e3, e5, e6⟩
    simp only at e1 e5 e6 ⊢
    subst e1
    by_cases hk : k < n
    · obtain ⟨hG, hL1⟩ := hN k hk
      obtain ⟨d, hd⟩ : ∃ d, n - k = d + 1 := ⟨n - k - 1, by omega⟩
      obtain ⟨y, hy⟩ := get_ex (xs := xs) (k := k) (by omega)
      obtain ⟨p1, p2, p3, p4, p5, p6⟩ := hx k _ hy
      by_cases hlt : t' < L k
      · refine Or.inr ⟨.inl (a, t', y), ?_, ?_⟩
        · unfold X2_her_b10
          rw [e_wk hsc, hl, e_nn, e_wk hL.K, J2_size_l hL, e_ob, hlen, if_neg (nI_ge hk (by omega)), e_nn, e_wk hL.K, J2_get_l hL hy, e_ob, e_rk (by rw [p1]), e_in (by rw [p2]; decide)]
          rw [show ((1 : Int32).toNatClampNeg) = 1 from rfl, p5, if_neg (by rw [i_le]; rw [i_lt] at hlt; omega)]
        · show rk_ g _ 100 _ = _
          rw [e_rk (by rw [p1]), e_in (by rw [p2]; decide), e_in (by rw [p2]; decide), show ((1 : Int32).toNatClampNeg) = 1 from rfl, show ((0 : Int32).toNatClampNeg) = 0 from rfl, p4, p5, e_dv]
          · rw [← e6, hd, hr_, if_pos hlt]
          · intro h0
            rw [h0] at hL1
            have : ((0 : Int32)).toInt = 0 := by decide
            omega
      · have hlt' := hlt
        rw [i_lt] at hlt'
        have hs : (t' - L k).toInt = t'.toInt - (L k).toInt := by
          have := i_rg t'
          exact i_sub (by omega) (by omega)
        refine Or.inl ⟨(G k, t' - L k, nI k + 1), r - 1, by omega, ?_, k + 1, nI_1 k, by omega, by omega, by show 0 ≤ (t' - L k).toInt; omega, ?_⟩
        · unfold X2_her_b10
          rw [e_wk hsc, hl, e_nn, e_wk hL.K, J2_size_l hL, e_ob, hlen, if_neg (nI_ge hk (by omega)), e_nn, e_wk hL.K, J2_get_l hL hy, e_ob, e_rk (by rw [p1]), e_in (by rw [p2]; decide)]
          rw [show ((1 : Int32).toNatClampNeg) = 1 from rfl, show ((0 : Int32).toNatClampNeg) = 0 from rfl, p5, p4, if_pos (by rw [i_le]; omega), e_in (by rw [p2]; decide), e_in (by rw [p2]; decide)]
        · rw [← e6, hd]
          show hr_ _ _ (n - (k + 1)) (k + 1) (G k) (t' - L k) = hr_ _ _ (d + 1) k a t'
          rw [hr_, if_neg hlt]
          congr 1
          omega
    · have hkn : k = n := by omega
      refine Or.inr ⟨.inr a, ?_, ?_⟩
      · unfold X2_her_b10
        rw [e_wk hsc, hl, e_nn, e_wk hL.K, J2_size_l hL, e_ob, hlen, if_pos (nI_le (by omega) (by omega))]
      · show some a = _
        rw [← e6, hkn, Nat.sub_self]
        rfl
  unfold X2_her
  rw [e_wk hsc, h1, e_ob, h2]
/-- last -/
theorem sm_rg {L : Nat → Int32} : ∀ n, (∀ i, i < n → 1 ≤ (L i).toInt ∧ (L i).toInt ≤ 99) → n ≤ 12 → (n : Int) ≤ (sm_ L n).toInt ∧ (sm_ L n).toInt ≤ 99 * n := by
  intro n
  induction n with
  | zero => intro _ _; exact ⟨Int.le_refl 0, Int.le_refl 0⟩
  | succ n ih =>
    intro h hn
    have h1 := ih (fun i hi => h i (by omega)) (by omega)
    have h2 := h n (by omega)
    have e : (sm_ L (n + 1)).toInt = (sm_ L n).toInt + (L n).toInt := i_add (by omega) (by omega)
    rw [e]
    omega
theorem X4_last_l {σ : MS} {n : Nat} (hn : m_I σ 2 = nI n) (hn12 : n ≤ 12) : X4_last σ = some (sm_ (m_A σ 9) n) := by
  obtain ⟨e, h1, h2⟩ : ∃ e, lp_ (fun a : Int32 × Int32 => X4_last_b4 σ a.1 a.2) fu_ (0, 0) = some e ∧ e = sm_ (m_A σ 9) n := by
    refine lp_t (I := fun r a => ∃ k, a.2 = nI k ∧ k ≤ n ∧ r = n - k ∧ a.1 = sm_ (m_A σ 9) k) ?_ fu_ n _ ⟨0, rfl, Nat.zero_le _, rfl, rfl⟩ (by unfold fu_; omega)
    rintro r ⟨v, x2⟩ ⟨k, e1, e2, e3, e4⟩
    simp only at e1 e4 ⊢
    subst e1 e4
    unfold X4_last_b4
    by_cases hk : k < n
    · refine Or.inl ⟨(sm_ (m_A σ 9) k + m_A σ 9 k, nI k + 1), r - 1, by omega, ?_, k + 1, nI_1 k, by omega, by omega, rfl⟩
      rw [hn, if_neg (nI_ge hk (by omega)), e_inN (by omega) (by omega), nI_clamp (by omega)]
    · have hkn : k = n := by omega
      subst hkn
      exact Or.inr ⟨_, by rw [hn, if_pos (nI_le (Nat.le_refl _) (by omega))], rfl⟩
  unfold X4_last
  rw [h1, e_ob, h2]
/-! whose face it is -/
def wy_ (C T : Nat → Int32) (t s : Int32) : Nat → Int32
  | 0 => 0
  | n + 1 => if t < C n + s then wy_ C T t s n else T n
def chN (C T : Nat → Int32) (n : Nat) : Prop := ∀ i, i < n → (1 ≤ (C i).toInt ∧ (C i).toInt ≤ 600) ∧ (T i = 0 ∨ T i = 1)
theorem wy_01 {C T : Nat → Int32} {t s : Int32} : ∀ n, (∀ i, i < n → T i = 0 ∨ T i = 1) → wy_ C T t s n = 0 ∨ wy_ C T t s n = 1 := by
  intro n
  induction n with
  | zero => intro _; exact Or.inl rfl
  | succ n ih =>
    intro h
    unfold wy_
    split
    · exact ih (fun i hi => h i (by omega))
    · exact h n (by omega)
theorem wy_sh {C T : Nat → Int32} {t s : Int32} (ht : 0 ≤ t.toInt ∧ t.toInt ≤ 700) (hs : -100 ≤ s.toInt ∧ s.toInt ≤ 100) : ∀ n, (∀ i, i < n → 1 ≤ (C i).toInt ∧ (C i).toInt ≤ 600) → wy_ C T (t - s) 0 n = wy_ C T t s n := by
  intro n
  induction n with
  | zero => intro _; rfl
  | succ n ih =>
    intro h
    have hc := h n (by omega)
    have e1 : (t - s).toInt = t.toInt - s.toInt := i_sub (by omega) (by omega)
    have e2 : (C n + s).toInt = (C n).toInt + s.toInt := i_add (by omega) (by omega)
    unfold wy_
    rw [ih (fun i hi => h i (by omega)), Int32.add_zero]
    by_cases h1 : t < C n + s
    · rw [if_pos h1, if_pos]
      rw [i_lt] at h1 ⊢
      omega
    · rw [if_neg h1, if_neg]
      rw [i_lt] at h1 ⊢
      omega
theorem X4_whoseBy_l {σ : MS} {n : Nat} (hn : m_I σ 3 = nI n) (hn6 : n ≤ 6) {t s : Int32} : X4_whoseBy t s σ = some (wy_ (m_A σ 10) (m_A σ 11) t s n) := by
  obtain ⟨e, h1, h2⟩ : ∃ e, lp_ (fun a : Int32 × Int32 => X4_whoseBy_b5 t s σ a.1 a.2) fu_ (0, 0) = some e ∧ e = wy_ (m_A σ 10) (m_A σ 11) t s n := by
    refine lp_t (I := fun r a => ∃ k, a.2 = nI k ∧ k ≤ n ∧ r = n - k ∧ a.1 = wy_ (m_A σ 10) (m_A σ 11) t s k) ?_ fu_ n _ ⟨0, rfl, Nat.zero_le _, rfl, rfl⟩ (by unfold fu_; omega)
    rintro r ⟨v, x2⟩ ⟨k, e1, e2, e3, e4⟩
    simp only at e1 e4 ⊢
    subst e1 e4
    unfold X4_whoseBy_b5
    by_cases hk : k < n
    · rw [hn, if_neg (nI_ge hk (by omega)), e_inN (by omega) (by omega), nI_clamp (by omega)]
      by_cases hlt : t < m_A σ 10 k + s
      · refine Or.inl ⟨(wy_ (m_A σ 10) (m_A σ 11) t s k, nI k + 1), r - 1, by omega, ?_, k + 1, nI_1 k, by omega, by omega, ?_⟩
        · rw [if_pos hlt]; rfl
        · show _ = wy_ _ _ t s (k + 1)
          rw [wy_, if_pos hlt]
      · refine Or.inl ⟨(m_A σ 11 k, nI k + 1), r - 1, by omega, ?_, k + 1, nI_1 k, by omega, by omega, ?_⟩
        · rw [if_neg hlt, e_inN (by omega) (by omega)]; rfl
        · show _ = wy_ _ _ t s (k + 1)
          rw [wy_, if_neg hlt]
    · have hkn : k = n := by omega
      subst hkn
      exact Or.inr ⟨_, by rw [hn, if_pos (nI_le (Nat.le_refl _) (by omega))], rfl⟩
  unfold X4_whoseBy
  rw [h1, e_ob, h2]
theorem X2_isHis_l {g : GS} {ρ : Nat → Nat} {r sc n : Nat} {C T : Nat → Int32} (hsc : gK g sc = 2) (hp : PlP g ρ r sc 1 n C T) (hn6 : n ≤ 6) (hN : chN C T n) {t : Int32} : X2_isHis sc t g = some (wy_ C T t 0 n) := by
  obtain ⟨l, xs, hl, hL, hlen, hx⟩ := hp
  obtain ⟨e, h1, h2⟩ : ∃ e, lp_ (fun a : Int32 × Int32 => X2_isHis_b4 sc t g a.1 a.2) fu_ (0, 0) = some e ∧ e = wy_ C T t 0 n := by
    refine lp_t (I := fun r a => ∃ k, a.2 = nI k ∧ k ≤ n ∧ r = n - k ∧ a.1 = wy_ C T t 0 k) ?_ fu_ n _ ⟨0, rfl, Nat.zero_le _, rfl, rfl⟩ (by unfold fu_; omega)
    rintro r ⟨v, x2⟩ ⟨k, e1, e2, e3, e4⟩
    simp only at e1 e4 ⊢
    subst e1 e4
    unfold X2_isHis_b4
    rw [e_wk hsc, hl, e_nn, e_wk hL.K, J2_size_l hL, e_ob, hlen]
    by_cases hk : k < n
    · obtain ⟨y, hy⟩ := get_ex (xs := xs) (k := k) (by omega)
      obtain ⟨p1, p2, p3, p4, p5, p6⟩ := hx k _ hy
      rw [if_neg (nI_ge hk (by omega)), e_nn, e_wk hL.K, J2_get_l hL hy, e_ob, e_rk (by rw [p1]), e_in (by rw [p2]; decide), show ((0 : Int32).toNatClampNeg) = 0 from rfl, show ((1 : Int32).toNatClampNeg) = 1 from rfl, p4]
      by_cases hlt : t < C k
      · refine Or.inl ⟨(wy_ C T t 0 k, nI k + 1), r - 1, by omega, ?_, k + 1, nI_1 k, by omega, by omega, ?_⟩
        · rw [if_pos hlt]; rfl
        · show _ = wy_ _ _ t 0 (k + 1)
          rw [wy_, Int32.add_zero, if_pos hlt]
      · refine Or.inl ⟨(T k, nI k + 1), r - 1, by omega, ?_, k + 1, nI_1 k, by omega, by omega, ?_⟩
        · rw [if_neg hlt, e_nn, e_wk hL.K, J2_get_l hL hy, e_ob, e_rk (by rw [p1]), e_in (by rw [p2]; decide), p5]
          rcases (hN k hk).2 with h0 | h0 <;> rw [h0] <;> rfl
        · show _ = wy_ _ _ t 0 (k + 1)
          rw [wy_, Int32.add_zero, if_neg hlt]
    · have hkn : k = n := by omega
      subst hkn
      exact Or.inr ⟨_, by rw [if_pos (nI_le (Nat.le_refl _) (by omega))], rfl⟩
  unfold X2_isHis
  rw [h1, e_ob, h2]
  rcases wy_01 (C := C) (t := t) (s := 0) n (fun i hi => (hN i hi).2) with h0 | h0 <;> rw [h0] <;> rfl
/-! chalk on the floor -/
def mk_ (S : Nat → Int32) (m : Nat) (x : Int32) : Bool := (List.range m).any (fun i => decide (jabs_ (S (6 + i) - x) ≤ 6))
theorem mk_t {S : Nat → Int32} {m : Nat} {x : Int32} : mk_ S m x = true ↔ ∃ i, i < m ∧ jabs_ (S (6 + i) - x) ≤ 6 := by
  unfold mk_
  rw [List.any_eq_true]
  constructor
  · rintro ⟨i, hi, hv⟩
    exact ⟨i, List.mem_range.mp hi, of_decide_eq_true hv⟩
  · rintro ⟨i, hi, hv⟩
    exact ⟨i, List.mem_range.mpr hi, decide_eq_true hv⟩
theorem mk_f {S : Nat → Int32} {m : Nat} {x : Int32} (h : ∀ i, i < m → ¬ jabs_ (S (6 + i) - x) ≤ 6) : mk_ S m x = false := by
  cases hb : mk_ S m x with
  | false => rfl
  | true =>
    obtain ⟨i, hi, hv⟩ := mk_t.mp hb
    exact absurd hv (h i hi)
theorem nle_lt {x y : Int32} : ¬ x ≤ y ↔ y < x := by rw [i_le, i_lt]; omega
theorem nlt_le {x y : Int32} : ¬ x < y ↔ y ≤ x := by rw [i_le, i_lt]; omega
theorem X3_isByMark_l {g : GS} {ρ : Nat → Nat} {r x m : Nat} {S : Nat → Int32} (h : SetP g ρ r x m S) {v : Int32} : X3_isByMark x v g = some (if mk_ S m v = true then 1 else 0) := by
  obtain ⟨h1, h2, h3, -, l, ys, h5, h6, h7, h8⟩ := h
  have hlen := h6.len
  obtain ⟨o, m1, m2⟩ : ∃ o, lp_ (fun a => X3_isByMark_b2 x v g a) fu_ 0 = some o ∧ ((mk_ S m v = true ∧ o = .inl ()) ∨ (mk_ S m v = false ∧ o = .inr ())) := by
    refine lp_t (I := fun k a => ∃ i, a = nI i ∧ i ≤ m ∧ k = m - i ∧ ∀ j, j < i → ¬ jabs_ (S (6 + j) - v) ≤ 6) ?_ fu_ m _ ⟨0, rfl, Nat.zero_le _, rfl, fun j hj => by omega⟩ (by unfold fu_; omega)
    rintro k a ⟨i, e1, e2, e3, e4⟩
    subst e1
    unfold X3_isByMark_b2
    rw [e_wk h1, h5, e_nn, e_wk h6.K, J2_size_l h6, e_ob, h7]
    by_cases hi : i < m
    · have hy := List.getElem?_eq_getElem (l := ys) (i := i) (by omega)
      obtain ⟨n1, n2, n3, n4⟩ := h8 i _ hy
      rw [if_neg (nI_ge hi (by omega)), e_nn, e_wk h6.K, J2_get_l h6 hy, e_ob, e_rk n1, J19_intValue_l n1, e_ob, n4]
      by_cases hc : jabs_ (S (6 + i) - v) ≤ 6
      · refine Or.inr ⟨.inl (), by rw [if_neg (by rw [nlt_le]; exact hc)], Or.inl ⟨mk_t.mpr ⟨i, hi, hc⟩, rfl⟩⟩
      · refine Or.inl ⟨nI i + 1, k - 1, by omega, by rw [if_pos (nle_lt.mp hc)], i + 1, nI_1 i, by omega, by omega, fun j hj => ?_⟩
        by_cases hji : j = i
        · rw [hji]; exact hc
        · exact e4 j (by omega)
    · exact Or.inr ⟨.inr (), by rw [if_pos (nI_le (by omega) (by omega))], Or.inr ⟨mk_f (fun j hj => e4 j (by omega)), rfl⟩⟩
  unfold X3_isByMark
  rw [m1, e_ob]
  rcases m2 with ⟨a, rfl⟩ | ⟨a, rfl⟩ <;> rw [a] <;> rfl
theorem off_l {x y : Int32} (hx : -100000 ≤ x.toInt ∧ x.toInt ≤ 100000) (hy : -100000 ≤ y.toInt ∧ y.toInt ≤ 100000) : X4_off x y = some (jabs_ (x - y)) ∧ (jabs_ (x - y)).toInt = if y.toInt ≤ x.toInt then x.toInt - y.toInt else y.toInt - x.toInt := by
  have e1 : (x - y).toInt = x.toInt - y.toInt := i_sub (by omega) (by omega)
  have e2 : (y - x).toInt = y.toInt - x.toInt := i_sub (by omega) (by omega)
  have z0 : ((0 : Int32)).toInt = 0 := by decide
  unfold X4_off jabs_
  by_cases h : y ≤ x
  · have h' := h
    rw [i_le] at h'
    rw [if_pos h, if_pos (show (0 : Int32) ≤ x - y by rw [i_le, e1]; omega), if_pos h', e1]
    exact ⟨rfl, rfl⟩
  · have h' := h
    rw [i_le] at h'
    have e3 : (0 - (x - y)).toInt = y.toInt - x.toInt := by rw [i_sub (by rw [e1]; omega) (by rw [e1]; omega), e1]; omega
    rw [if_neg h, if_neg (show ¬ (0 : Int32) ≤ x - y by rw [i_le, e1]; omega), if_neg h', e3]
    refine ⟨?_, rfl⟩
    rw [Option.some.injEq, i_eq, e2, e3]
theorem jabs_comm {x y : Int32} (hx : -100000 ≤ x.toInt ∧ x.toInt ≤ 100000) (hy : -100000 ≤ y.toInt ∧ y.toInt ≤ 100000) : jabs_ (x - y) = jabs_ (y - x) := by
  rw [i_eq, (off_l hx hy).2, (off_l hy hx).2]
  split <;> split <;> omega
theorem X4_isByMark_l {σ : MS} {m : Nat} (hm : m_I σ 4 = nI m) (hm6 : m ≤ 6) (hS : ∀ i, i < m → 12 ≤ (m_A σ 53 (6 + i)).toInt ∧ (m_A σ 53 (6 + i)).toInt ≤ 480) {v : Int32} (hv : 0 ≤ v.toInt ∧ v.toInt ≤ 1000) : X4_isByMark v σ = some (if mk_ (m_A σ 53) m v = true then 1 else 0) := by
  obtain ⟨o, m1, m2⟩ : ∃ o, lp_ (fun a => X4_isByMark_b2 v σ a) fu_ 0 = some o ∧ ((mk_ (m_A σ 53) m v = true ∧ o = .inl ()) ∨ (mk_ (m_A σ 53) m v = false ∧ o = .inr ())) := by
    refine lp_t (I := fun k a => ∃ i, a = nI i ∧ i ≤ m ∧ k = m - i ∧ ∀ j, j < i → ¬ jabs_ (m_A σ 53 (6 + j) - v) ≤ 6) ?_ fu_ m _ ⟨0, rfl, Nat.zero_le _, rfl, fun j hj => by omega⟩ (by unfold fu_; omega)
    rintro k a ⟨i, e1, e2, e3, e4⟩
    subst e1
    unfold X4_isByMark_b2
    rw [hm]
    by_cases hi : i < m
    · have hb := hS i hi
      have h6 : 6 + nI i = nI (6 + i) := nI_add 6 i
      rw [if_neg (nI_ge hi (by omega)), h6, e_inN (by omega) (by omega), nI_clamp (by omega), (off_l (x := v) (y := m_A σ 53 (6 + i)) (by omega) (by omega)).1, e_ob, jabs_comm (x := v) (by omega) (by omega)]
      by_cases hc : jabs_ (m_A σ 53 (6 + i) - v) ≤ 6
      · exact Or.inr ⟨.inl (), by rw [if_neg (by rw [nlt_le]; exact hc)], Or.inl ⟨mk_t.mpr ⟨i, hi, hc⟩, rfl⟩⟩
      · refine Or.inl ⟨nI i + 1, k - 1, by omega, by rw [if_pos (nle_lt.mp hc)], i + 1, nI_1 i, by omega, by omega, fun j hj => ?_⟩
        by_cases hji : j = i
        · rw [hji]; exact hc
        · exact e4 j (by omega)
    · exact Or.inr ⟨.inr (), by rw [if_pos (nI_le (by omega) (by omega))], Or.inr ⟨mk_f (fun j hj => e4 j (by omega)), rfl⟩⟩
  unfold X4_isByMark
  rw [m1, e_ob]
  rcases m2 with ⟨a, rfl⟩ | ⟨a, rfl⟩ <;> rw [a] <;> rfl
