/-! LAWS: marks: a choice of places is tried (own work) -/
set_option maxRecDepth 100000
/-- the take that Chalks runs, and what it needs -/
def GC (g : GS) (ρ : Nat → Nat) (a sc v n kk h T u x sa ra oa lm P : Nat) (ps : List Nat) (k : Nat) (σ : MS) : Prop :=
  CW g ρ a sc v n kk h σ ∧ TkP g ρ u a x sa ra oa ∧ TnP g u σ ∧
  (gK g x = 3 ∧ ρ x = 10 ∧ x < gz g ∧ (gI g x 0 = m_A σ 53 0 ∧ gI g x 1 = m_A σ 53 1 ∧ gI g x 2 = m_A σ 53 2 ∧ gI g x 3 = m_A σ 53 3 ∧ gI g x 4 = m_A σ 53 5 ∧ gI g x 5 = m_A σ 53 4) ∧ gR g x 6 = lm + 1) ∧
  (sm_ (m_A σ 9) n = nI T ∧ T ≤ 600) ∧ m_I σ 4 = nI k ∧ RowOK (m_A σ 53) 0 h ∧ PlcP g ρ P ps σ ∧ EnvP g ρ
/-- the best so far -/
def GK (g : GS) (ρ : Nat → Nat) (c9 P u k : Nat) (b : Int32) (σ : MS) : Prop :=
  (gK g c9 = 11 ∧ ρ c9 = 13 ∧ c9 < gz g ∧ gR g c9 0 = P + 1 ∧ gR g c9 1 = u + 1 ∧ gI g c9 3 = b) ∧
  ((b = -1 ∧ gR g c9 2 = 0) ∨ ∃ bl bs, 0 ≤ b.toInt ∧ gR g c9 2 = bl + 1 ∧ LiP g ρ 0 bl bs ∧ bs.length = k ∧ IP g ρ bs (m_A σ 70))
theorem GC.to {W : Nat → Prop} {g g' : GS} {ρ ρ' : Nat → Nat} {a sc v n kk h T u x sa ra oa lm P k : Nat} {ps : List Nat} {σ σ' : MS} (hG : GC g ρ a sc v n kk h T u x sa ra oa lm P ps k σ) (hF : Fr W g g') (hA : Ag g ρ ρ') (hW : ∀ q, q < gz g → W q → 9 ≤ ρ q ∧ ¬ q = u ∧ ¬ q = x ∧ ¬ ρ q = 11) (hM : Mf [] [70, 72] σ σ') : GC g' ρ' a sc v n kk h T u x sa ra oa lm P ps k σ' := by
  obtain ⟨hC, hK, ⟨⟨n1, n1'⟩, ⟨n2, n2'⟩, n3, n3'⟩, ⟨x1, x2, x3, ⟨y0, y1, y2, y3, y4, y5⟩, x5⟩, ⟨hs, hT⟩, h4, hR, hP, hE⟩ := hG
  have hu : ¬ W u := fun q => (hW u hK.1.2.2 q).2.1 rfl
  have hx : ¬ W x := fun q => (hW x x3 q).2.2.1 rfl
  have ha : ¬ W a := fun q => by
    have := (hW a hC.1.2.2.1 q).1
    rw [hC.1.2.1] at this
    omega
  have h0 : ∀ q, q < gz g → ρ q = 0 → ¬ W q := fun q hq k k2 => by
    have := (hW q hq k2).1
    omega
  have e53 : m_A σ' 53 = m_A σ 53 := hM.Af (by decide)
  refine ⟨hC.to hF hA h0 ⟨hF.R hC.1.2.2.1 ha 0, hF.R hC.1.2.2.1 ha 2⟩ hM (by decide) (by decide), hK.to hF hA (fun i => hF.R hK.1.2.2 hu i), ⟨⟨by rw [hF.I hK.1.2.2 hu, n1, hM.I (by decide)], by rw [hM.I (by decide)]; exact n1'⟩, ⟨by rw [hF.I hK.1.2.2 hu, n2, hM.I (by decide)], by rw [hM.I (by decide)]; exact n2'⟩, by rw [hF.I hK.1.2.2 hu, n3, hM.I (by decide)], by rw [hM.I (by decide)]; exact n3'⟩, ⟨by rw [hF.K x3, x1], by rw [hA x x3, x2], hF.lt x3, ?_, by rw [hF.R x3 hx, x5]⟩, ⟨by rw [hM.Af (by decide)]; exact hs, hT⟩, by rw [hM.I (by decide)]; exact h4, by rw [e53]; exact hR, hP.to hF hA (fun q hq k k2 => ?_) (hM.I (by decide)) (hM.Af (by decide)), hE.to hF hA h0⟩
  · rw [e53]
    exact ⟨by rw [hF.I x3 hx, y0], by rw [hF.I x3 hx, y1], by rw [hF.I x3 hx, y2], by rw [hF.I x3 hx, y3], by rw [hF.I x3 hx, y4], by rw [hF.I x3 hx, y5]⟩
  · obtain ⟨w1, -, -, w4⟩ := hW q hq k2
    rcases k with k | k
    · exact w4 k
    · omega
theorem GK.to {W : Nat → Prop} {g g' : GS} {ρ ρ' : Nat → Nat} {c9 P u k : Nat} {b : Int32} {σ σ' : MS} (hG : GK g ρ c9 P u k b σ) (hF : Fr W g g') (hA : Ag g ρ ρ') (hW : ∀ q, q < gz g → W q → ¬ ρ q = 13 ∧ ¬ ρ q = 0) (e70 : m_A σ' 70 = m_A σ 70) : GK g' ρ' c9 P u k b σ' := by
  obtain ⟨⟨c1, c2, c3, c4, c5, c6⟩, hb⟩ := hG
  have hc : ¬ W c9 := fun q => (hW c9 c3 q).1 c2
  have h0 : ∀ q, q < gz g → ρ q = 0 → ¬ W q := fun q hq k k2 => (hW q hq k2).2 k
  refine ⟨⟨by rw [hF.K c3, c1], by rw [hA c9 c3, c2], hF.lt c3, by rw [hF.R c3 hc, c4], by rw [hF.R c3 hc, c5], by rw [hF.I c3 hc, c6]⟩, ?_⟩
  rcases hb with ⟨b1, b2⟩ | ⟨bl, bs, b0, b1, b2, b3, b4⟩
  · exact Or.inl ⟨b1, by rw [hF.R c3 hc, b2]⟩
  · exact Or.inr ⟨bl, bs, b0, by rw [hF.R c3 hc, b1], b2.to hF hA (fun q hq k => h0 q hq (k.elim id id)), b3, by rw [e70]; exact b4.to hF hA h0⟩
theorem rowcp_l {σ : MS} {k c : Nat} {N : Nat → Nat} (mo b : Int32) (hk : k ≤ 3) (hc : c ≤ 13) (hN : ∀ i, i < k → m_A σ 72 i = nI (N i)) (hNc : ∀ i, i < k → N i < c) : ∃ σ', lp_ (fun a : Int32 × MS => X4_marks_b125 (nI k) mo b a.1 a.2) fu_ (0, σ) = some σ' ∧ Mf [] [53] σ σ' ∧ (∀ i, i < 6 → m_A σ' 53 i = m_A σ 53 i) ∧ ∀ i, i < k → m_A σ' 53 (6 + i) = m_A σ 71 (N i) := by
  obtain ⟨e, m1, m2⟩ := lp_t (body := fun a : Int32 × MS => X4_marks_b125 (nI k) mo b a.1 a.2)
    (I := fun m a => ∃ t, a.1 = nI t ∧ t ≤ k ∧ m = k - t ∧ Mf [] [53] σ a.2 ∧ (∀ i, i < 6 → m_A a.2 53 i = m_A σ 53 i) ∧ ∀ i, i < t → m_A a.2 53 (6 + i) = m_A σ 71 (N i))
    (Q := fun e => Mf [] [53] σ e ∧ (∀ i, i < 6 → m_A e 53 i = m_A σ 53 i) ∧ ∀ i, i < k → m_A e 53 (6 + i) = m_A σ 71 (N i))
    (by
      rintro m ⟨x3, σ1⟩ ⟨t, e1, e2, e3, e4, e5, e6⟩
      simp only at e1 e4 e5 e6 ⊢
      subst e1
      unfold X4_marks_b125
      by_cases ht : t < k
      · have h6 : 6 + nI t = nI (6 + t) := nI_add 6 t
        have hn := hNc t ht
        rw [if_neg (nI_ge ht (by omega)), e_inN (by omega) (by omega), nI_clamp (by omega), e4.A (by decide), hN t ht, e_inN (by omega) (by omega), nI_clamp (by omega), h6, e_inN (by omega) (by omega), nI_clamp (by omega), e4.A (by decide), nI_1]
        refine Or.inl ⟨_, m - 1, by omega, rfl, t + 1, rfl, by omega, by omega, e4.trans (Mf.sA (LI := []) (LA := [53]) (by decide)) (fun _ k => k) (fun _ k => k), fun i hi => ?_, fun i hi => ?_⟩
        · rw [rA_sA, if_neg (by rintro ⟨-, k⟩; omega), e5 i hi]
        · rw [rA_sA]
          by_cases q : i = t
          · rw [if_pos ⟨rfl, by omega⟩, q]
          · rw [if_neg (by rintro ⟨-, k⟩; omega), e6 i (by omega)]
      · rw [if_pos (nI_le (by omega) (by omega))]
        exact Or.inr ⟨_, rfl, e4, e5, fun i hi => e6 i (by omega)⟩)
    fu_ k (0, σ) ⟨0, rfl, by omega, rfl, Mf.rf, fun _ _ => rfl, fun i hi => by omega⟩ (by unfold fu_; omega)
  exact ⟨e, m1, m2⟩
theorem bestcp_l {σ : MS} {k c : Nat} {N : Nat → Nat} (mo b : Int32) (hk : k ≤ 3) (hc : c ≤ 13) (hN : ∀ i, i < k → m_A σ 72 i = nI (N i)) (hNc : ∀ i, i < k → N i < c) : ∃ σ', lp_ (fun a : Int32 × MS => X4_marks_b177 (nI k) mo b a.1 a.2) fu_ (0, σ) = some σ' ∧ Mf [] [70] σ σ' ∧ ∀ i, i < k → m_A σ' 70 i = m_A σ 71 (N i) := by
  obtain ⟨e, m1, m2⟩ := lp_t (body := fun a : Int32 × MS => X4_marks_b177 (nI k) mo b a.1 a.2)
    (I := fun m a => ∃ t, a.1 = nI t ∧ t ≤ k ∧ m = k - t ∧ Mf [] [70] σ a.2 ∧ ∀ i, i < t → m_A a.2 70 i = m_A σ 71 (N i))
    (Q := fun e => Mf [] [70] σ e ∧ ∀ i, i < k → m_A e 70 i = m_A σ 71 (N i))
    (by
      rintro m ⟨x3, σ1⟩ ⟨t, e1, e2, e3, e4, e6⟩
      simp only at e1 e4 e6 ⊢
      subst e1
      unfold X4_marks_b177
      by_cases ht : t < k
      · have hn := hNc t ht
        rw [if_neg (nI_ge ht (by omega)), e_inN (by omega) (by omega), nI_clamp (by omega), e4.A (by decide), hN t ht, e_inN (by omega) (by omega), nI_clamp (by omega), e_inN (by omega) (by omega), e4.A (by decide), nI_1]
        refine Or.inl ⟨_, m - 1, by omega, rfl, t + 1, rfl, by omega, by omega, e4.trans (Mf.sA (LI := []) (LA := [70]) (by decide)) (fun _ k => k) (fun _ k => k), fun i hi => ?_⟩
        rw [rA_sA]
        by_cases q : i = t
        · rw [if_pos ⟨rfl, q⟩, q]
        · rw [if_neg (by rintro ⟨-, k⟩; omega), e6 i (by omega)]
      · rw [if_pos (nI_le (by omega) (by omega))]
        exact Or.inr ⟨_, rfl, e4, fun i hi => e6 i (by omega)⟩)
    fu_ k (0, σ) ⟨0, rfl, by omega, rfl, Mf.rf, fun i hi => by omega⟩ (by unfold fu_; omega)
  exact ⟨e, m1, m2⟩
