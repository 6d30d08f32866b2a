/-! LAWS: the text's tokens (own work) -/
set_option maxRecDepth 100000
theorem by_255 : ∀ n : Fin 256, (nI n.val).toInt8.toInt32 &&& 255 = nI n.val := by decide +kernel
theorem pI_id {g : GS} {a k : Nat} {v : Int32} (h : v = gI g a k) : pI g a k v = g := by
  refine GS.ext' (fun _ => rfl) (fun _ => rfl) (fun b i => ?_) (fun _ _ => rfl) rfl rfl
  rw [I_pI]
  by_cases q : b = a ∧ i = k
  · rw [if_pos q, q.1, q.2, h]
  · rw [if_neg q]
/-- the reader rd over the tape's first L bytes tx -/
def TxP (g : GS) (ρ : Nat → Nat) (rd a tp L : Nat) (tx : Nat → Nat) (σ : MS) : Prop :=
  (gK g rd = 4 ∧ ρ rd = 9 ∧ rd < gz g ∧ gI g rd 0 = nI L ∧ gR g rd 14 = a + 1) ∧ (gK g a = 1 ∧ ρ a = 1 ∧ a < gz g ∧ gR g a 3 = tp + 1) ∧ (gK g tp = 101 ∧ gN g tp = 700 ∧ ρ tp = 7 ∧ tp < gz g ∧ ∀ i, i < 700 → gI g tp i = (nI (tx i)).toInt8.toInt32) ∧ (m_I σ 19 = nI L ∧ L ≤ 700) ∧ (∀ i, i < 700 → m_A σ 14 i = nI (tx i)) ∧ ∀ i, tx i ≤ 255
theorem TxP.to {W : Nat → Prop} {g g' : GS} {ρ ρ' : Nat → Nat} {rd a tp L : Nat} {tx : Nat → Nat} {σ σ' : MS} (h : TxP g ρ rd a tp L tx σ) (hF : Fr W g g') (hA : Ag g ρ ρ') (hW : ∀ q, q < gz g → W q → ¬ q = a ∧ ¬ q = tp) (h0 : gI g' rd 0 = gI g rd 0) (h14 : gR g' rd 14 = gR g rd 14) (e19 : m_I σ' 19 = m_I σ 19) (e14 : m_A σ' 14 = m_A σ 14) : TxP g' ρ' rd a tp L tx σ' := by
  obtain ⟨⟨a1, a2, a3, a4, a5⟩, ⟨b1, b2, b3, b4⟩, ⟨c1, c2, c3, c4, c5⟩, ⟨d1, d2⟩, e1, f1⟩ := h
  have hna : ¬ W a := fun k => (hW a b3 k).1 rfl
  have hnt : ¬ W tp := fun k => (hW tp c4 k).2 rfl
  exact ⟨⟨by rw [hF.K a3, a1], by rw [hA rd a3, a2], hF.lt a3, by rw [h0, a4], by rw [h14, a5]⟩, ⟨by rw [hF.K b3, b1], by rw [hA a b3, b2], hF.lt b3, by rw [hF.R b3 hna, b4]⟩, ⟨by rw [hF.K c4, c1], by rw [hF.N c4, c2], by rw [hA tp c4, c3], hF.lt c4, fun i hi => by rw [hF.I c4 hnt, c5 i hi]⟩, ⟨by rw [e19, d1], d2⟩, by rw [e14]; exact e1, f1⟩
theorem TxP.ne {g : GS} {ρ : Nat → Nat} {rd a tp L : Nat} {tx : Nat → Nat} {σ : MS} (h : TxP g ρ rd a tp L tx σ) : ¬ rd = a ∧ ¬ rd = tp := by
  obtain ⟨⟨a1, -⟩, ⟨b1, -⟩, ⟨c1, -⟩, -⟩ := h
  exact ⟨fun q => (by rw [q, b1] at a1; omega), fun q => (by rw [q, c1] at a1; omega)⟩
/-- one of the reader's numbers is set -/
theorem TxP.put {g : GS} {ρ : Nat → Nat} {rd a tp L k : Nat} {v : Int32} {tx : Nat → Nat} {σ σ' : MS} (h : TxP g ρ rd a tp L tx σ) (hk : k ≠ 0) (e19 : m_I σ' 19 = m_I σ 19) (e14 : m_A σ' 14 = m_A σ 14) : TxP (pI g rd k v) ρ rd a tp L tx σ' := by
  obtain ⟨n1, n2⟩ := h.ne
  exact h.to (W := fun q => q = rd) (Fr.pI rfl) Ag.rf (fun q _ k => by rw [k]; exact ⟨n1, n2⟩) (by rw [I_pI, if_neg (by rintro ⟨-, q⟩; exact hk q.symm)]) rfl e19 e14
theorem here_l {g : GS} {ρ : Nat → Nat} {rd a tp L p : Nat} {tx : Nat → Nat} {σ : MS} (h : TxP g ρ rd a tp L tx σ) (hp : gI g rd 8 = nI p) (hp7 : p ≤ 700) : X5_here rd g = some (if L ≤ p then -1 else nI (tx p)) := by
  obtain ⟨⟨a1, a2, a3, a4, a5⟩, ⟨b1, b2, b3, b4⟩, ⟨c1, c2, c3, c4, c5⟩, ⟨d1, d2⟩, e1, f1⟩ := h
  unfold X5_here
  rw [e_wk a1, a4, hp]
  by_cases q : L ≤ p
  · rw [if_pos (nI_le q (by omega)), if_pos q]
  · rw [if_neg (nI_ge (by omega) (by omega)), if_neg q, a5, e_nn, e_wk b1, b4, e_nn, e_rk (by rw [c1]), c2, e_inN (by omega) (by omega), nI_clamp (by omega), c5 p (by omega), by_255 ⟨tx p, by have := f1 p; omega⟩]
theorem byteAt_l {g : GS} {ρ : Nat → Nat} {rd a tp L p : Nat} {tx : Nat → Nat} {σ : MS} (h : TxP g ρ rd a tp L tx σ) (hp7 : p ≤ 700) : X4_byteAt (nI p) σ = some (if L ≤ p then 0 else nI (tx p)) := by
  obtain ⟨-, -, -, ⟨d1, d2⟩, e1, f1⟩ := h
  unfold X4_byteAt
  rw [d1]
  by_cases q : L ≤ p
  · rw [if_pos (nI_le q (by omega)), if_pos q]
  · rw [if_neg (nI_ge (by omega) (by omega)), if_neg q, e_inN (by omega) (by omega), nI_clamp (by omega), e1 p (by omega)]
theorem inr_l {c lo hi : Nat} (hc : c < 2 ^ 31) (hl : lo < 2 ^ 31) (hh : hi < 2 ^ 31) : X1_in (nI c) (nI lo) (nI hi) = some (if lo ≤ c ∧ c ≤ hi then 1 else 0) := by
  unfold X1_in
  by_cases q : c < lo
  · rw [if_pos (nI_lt q hl), if_neg (by omega)]
  · rw [if_neg (nI_nlt (by omega) hc)]
    by_cases q2 : hi < c
    · rw [if_pos (nI_lt q2 hc), if_neg (by omega)]
    · rw [if_neg (nI_nlt (by omega) hh), if_pos (by omega)]
def isL_ (c : Nat) : Bool := decide (97 ≤ c ∧ c ≤ 122)
def isD_ (c : Nat) : Bool := decide (48 ≤ c ∧ c ≤ 57)
theorem isL_t {c : Nat} : isL_ c = true ↔ 97 ≤ c ∧ c ≤ 122 := by unfold isL_; exact decide_eq_true_iff
theorem isD_t {c : Nat} : isD_ c = true ↔ 48 ≤ c ∧ c ≤ 57 := by unfold isD_; exact decide_eq_true_iff
theorem X5_isLetter_l {g : GS} {ρ : Nat → Nat} {rd a tp L p : Nat} {tx : Nat → Nat} {σ : MS} (h : TxP g ρ rd a tp L tx σ) (hp : gI g rd 8 = nI p) (hp7 : p ≤ 700) : X5_isLetter rd g = some (if p < L ∧ isL_ (tx p) = true then 1 else 0) := by
  unfold X5_isLetter
  rw [e_wk h.1.1, here_l h hp hp7, e_ob]
  have h255 := h.2.2.2.2.2 p
  by_cases q : L ≤ p
  · rw [if_pos q, if_neg (by omega)]
    rfl
  · rw [if_neg q, show (97 : Int32) = nI 97 from rfl, show (122 : Int32) = nI 122 from rfl, inr_l (by omega) (by omega) (by omega), e_ob]
    simp only [isL_t]
    by_cases q2 : 97 ≤ tx p ∧ tx p ≤ 122
    · rw [if_pos q2, if_pos ⟨by omega, q2⟩]; rfl
    · rw [if_neg q2, if_neg (fun k => q2 k.2)]; rfl
theorem X5_isDigit_l {g : GS} {ρ : Nat → Nat} {rd a tp L p : Nat} {tx : Nat → Nat} {σ : MS} (h : TxP g ρ rd a tp L tx σ) (hp : gI g rd 8 = nI p) (hp7 : p ≤ 700) : X5_isDigit rd g = some (if p < L ∧ isD_ (tx p) = true then 1 else 0) := by
  unfold X5_isDigit
  rw [e_wk h.1.1, here_l h hp hp7, e_ob]
  have h255 := h.2.2.2.2.2 p
  by_cases q : L ≤ p
  · rw [if_pos q, if_neg (by omega)]
    rfl
  · rw [if_neg q, show (48 : Int32) = nI 48 from rfl, show (57 : Int32) = nI 57 from rfl, inr_l (by omega) (by omega) (by omega), e_ob]
    simp only [isD_t]
    by_cases q2 : 48 ≤ tx p ∧ tx p ≤ 57
    · rw [if_pos q2, if_pos ⟨by omega, q2⟩]; rfl
    · rw [if_neg q2, if_neg (fun k => q2 k.2)]; rfl
theorem X4_isLetter_l {c : Nat} (hc : c ≤ 255) : X4_isLetter (nI c) = some (if isL_ c = true then 1 else 0) := by
  simp only [isL_t]
  exact inr_l (lo := 97) (hi := 122) (by omega) (by omega) (by omega)
theorem X4_isDigit_l {c : Nat} (hc : c ≤ 255) : X4_isDigit (nI c) = some (if isD_ c = true then 1 else 0) := by
  simp only [isD_t]
  exact inr_l (lo := 48) (hi := 57) (by omega) (by omega) (by omega)
/-- the blanks are skipped -/
theorem skip_l {g : GS} {ρ : Nat → Nat} {rd a tp L p : Nat} {tx : Nat → Nat} {σ : MS} (h : TxP g ρ rd a tp L tx σ) (hp : gI g rd 8 = nI p) (hm : m_I σ 20 = nI p) (hpL : p ≤ L) : ∃ q, p ≤ q ∧ q ≤ L ∧ lp_ (fun a => X5_next_b0 rd a) fu_ g = some (pI g rd 8 (nI q)) ∧ lp_ (fun a => X4_goes_b0 a) fu_ σ = some (s_I σ 20 (nI q)) ∧ (q = L ∨ q < L ∧ ¬ tx q = 32 ∧ ¬ tx q = 10) := by
  have hL := h.2.2.2.1.2
  obtain ⟨e, e', m1, m2, q, m3, m4, m5, m6, m7⟩ := lp2_t (body := fun a => X5_next_b0 rd a) (body' := fun a => X4_goes_b0 a)
    (I := fun j (g' : GS) (σ' : MS) => ∃ q, p ≤ q ∧ q ≤ L ∧ j = L - q ∧ g' = pI g rd 8 (nI q) ∧ σ' = s_I σ 20 (nI q))
    (Q := fun g' σ' => ∃ q, p ≤ q ∧ q ≤ L ∧ g' = pI g rd 8 (nI q) ∧ σ' = s_I σ 20 (nI q) ∧ (q = L ∨ q < L ∧ ¬ tx q = 32 ∧ ¬ tx q = 10))
    (by
      rintro j g1 σ1 ⟨q, q1, q2, q3, rfl, rfl⟩
      have hT : TxP (pI g rd 8 (nI q)) ρ rd a tp L tx (s_I σ 20 (nI q)) := h.put (by decide) rfl rfl
      have h8 : gI (pI g rd 8 (nI q)) rd 8 = nI q := by rw [I_pI, if_pos ⟨rfl, rfl⟩]
      have h255 := h.2.2.2.2.2 q
      unfold X5_next_b0 X4_goes_b0 X5_next_j18 X4_goes_j37
      rw [e_wk hT.1.1, here_l hT h8 (by omega), e_ob, e_ob, hT.2.2.2.1.1, rI_sI, if_pos rfl]
      by_cases hq : L ≤ q
      · rw [if_pos hq, if_neg (by decide), if_neg (by decide), if_pos (nI_le hq (by omega))]
        exact Or.inr ⟨_, _, rfl, rfl, q, q1, q2, rfl, rfl, Or.inl (by omega)⟩
      · rw [if_neg hq, if_neg (nI_ge (by omega) (by omega)), byteAt_l hT (by omega), e_ob, e_ob, if_neg hq, e_wk hT.1.1, h8, nI_1, pI_pI, sI_sI]
        have step : ∃ a' b' j', j' < j ∧ (some (Sum.inl (pI g rd 8 (nI (q + 1)))) : Option (GS ⊕ GS)) = some (.inl a') ∧ (some (Sum.inl (s_I σ 20 (nI (q + 1)))) : Option (MS ⊕ MS)) = some (.inl b') ∧ ∃ q, p ≤ q ∧ q ≤ L ∧ j' = L - q ∧ a' = pI g rd 8 (nI q) ∧ b' = s_I σ 20 (nI q) := ⟨_, _, j - 1, by omega, rfl, rfl, q + 1, by omega, by omega, by omega, rfl, rfl⟩
        by_cases h32 : tx q = 32
        · rw [if_pos (by rw [h32]; rfl), if_pos (by rw [h32]; rfl)]
          exact Or.inl step
        · have h32' : ¬ nI (tx q) = 32 := fun k => h32 (nI_inj (by omega) (by omega) k)
          rw [if_neg h32', if_neg h32']
          by_cases h10 : tx q = 10
          · rw [if_pos (by rw [h10]; rfl), if_pos (by rw [h10]; rfl)]
            exact Or.inl step
          · have h10' : ¬ nI (tx q) = 10 := fun k => h10 (nI_inj (by omega) (by omega) k)
            rw [if_neg h10', if_neg h10']
            exact Or.inr ⟨_, _, rfl, rfl, q, q1, q2, rfl, rfl, Or.inr ⟨by omega, h32, h10⟩⟩)
    fu_ (L - p) g σ ⟨p, Nat.le_refl _, hpL, rfl, (pI_id hp.symm).symm, (sI_id hm.symm).symm⟩ (by unfold fu_; omega)
  exact ⟨q, m3, m4, by rw [m1, m5], by rw [m2, m6], m7⟩
