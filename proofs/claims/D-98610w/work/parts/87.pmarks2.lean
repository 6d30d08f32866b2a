/-! LAWS: marks: the next numbers (own work) -/
set_option maxRecDepth 100000
/-- what nextNumbers leaves behind the last numbers that begin with the first j of N -/
def NxP (k c : Nat) (N : Nat → Nat) : Nat → Int32 → (Nat → Int32) → Prop
  | 0, fl, _ => fl = 0
  | j + 1, fl, A => if N j + (k - j) < c then fl = 1 ∧ (∀ i, i < j → A i = nI (N i)) ∧ ∀ t, t < k - j → A (j + t) = nI (N j + 1 + t) else NxP k c N j fl A
theorem NxP.up {k c : Nat} {N : Nat → Nat} {fl : Int32} {A : Nat → Int32} {i : Nat} (h : NxP k c N i fl A) : ∀ d, i + d ≤ k → (∀ q, i ≤ q → q < k → ¬ N q + (k - q) < c) → NxP k c N (i + d) fl A := by
  intro d
  induction d with
  | zero => intro _ _; exact h
  | succ d ih =>
    intro hd hq
    show NxP k c N (i + d + 1) fl A
    unfold NxP
    rw [if_neg (hq (i + d) (by omega) (by omega))]
    exact ih (by omega) hq
theorem NxP.congr {k c : Nat} {N N' : Nat → Nat} {fl : Int32} {A : Nat → Int32} : ∀ j, (∀ i, i < j → N' i = N i) → NxP k c N j fl A → NxP k c N' j fl A := by
  intro j
  induction j with
  | zero => intro _ h; exact h
  | succ j ih =>
    intro hN h
    unfold NxP at h ⊢
    rw [hN j (by omega)]
    by_cases q : N j + (k - j) < c
    · rw [if_pos q] at h ⊢
      obtain ⟨h1, h2, h3⟩ := h
      exact ⟨h1, fun i hi => by rw [hN i (by omega)]; exact h2 i hi, h3⟩
    · rw [if_neg q] at h ⊢
      exact ih (fun i hi => hN i (by omega)) h
theorem scan_l {σ : MS} {k c : Nat} {N : Nat → Nat} (hk : k ≤ 3) (hc : c ≤ 13) (h69 : m_I σ 69 = nI c) (hN : ∀ i, i < k → m_A σ 72 i = nI (N i)) (hNc : ∀ i, i < k → N i + (k - i) ≤ c) : ∀ i, i ≤ k → (∀ q, i ≤ q → q < k → ¬ N q + (k - q) < c) → ∀ n, i < n → ∃ i', i' ≤ i ∧ lp_ (fun a => X4_nextNumbers_b4 (nI k) σ a) n (nI i - 1) = some (nI i' - 1) ∧ (i' = 0 ∨ N (i' - 1) + (k - (i' - 1)) < c) ∧ ∀ q, i' ≤ q → q < k → ¬ N q + (k - q) < c := by
  intro i
  induction i with
  | zero =>
    intro _ hq n hn
    obtain ⟨f, rfl⟩ : ∃ f, n = f + 1 := ⟨n - 1, by omega⟩
    refine ⟨0, Nat.le_refl _, lp_end ?_ f, Or.inl rfl, hq⟩
    unfold X4_nextNumbers_b4
    rw [if_pos (by decide)]
  | succ p ih =>
    intro hi hq n hn
    obtain ⟨f, rfl⟩ : ∃ f, n = f + 1 := ⟨n - 1, by omega⟩
    have hp := hNc p (by omega)
    have e1 : nI c - nI k + nI p = nI (c - k + p) := by
      rw [i_eq, i_n (by omega), i_add (by rw [i_sub (by rw [i_n (by omega), i_n (by omega)]; omega) (by rw [i_n (by omega), i_n (by omega)]; omega), i_n (by omega), i_n (by omega), i_n (by omega)]; omega) (by rw [i_sub (by rw [i_n (by omega), i_n (by omega)]; omega) (by rw [i_n (by omega), i_n (by omega)]; omega), i_n (by omega), i_n (by omega), i_n (by omega)]; omega), i_sub (by rw [i_n (by omega), i_n (by omega)]; omega) (by rw [i_n (by omega), i_n (by omega)]; omega), i_n (by omega), i_n (by omega), i_n (by omega)]
      have h0 := hNc 0 (by omega)
      omega
    have hb : X4_nextNumbers_b4 (nI k) σ (nI (p + 1) - 1) = if nI (N p) = nI (c - k + p) then some (.inl (nI p + (-1))) else some (.inr (nI p)) := by
      unfold X4_nextNumbers_b4
      rw [nI_p, if_neg (nI_pos (by omega)), e_inN (by omega) (by omega), nI_clamp (by omega), hN p (by omega), h69, e1]
    by_cases hlim : N p + (k - p) < c
    · refine ⟨p + 1, Nat.le_refl _, lp_end ?_ f, Or.inr (by rw [Nat.add_sub_cancel]; exact hlim), hq⟩
      rw [hb, if_neg (fun k' => by have := nI_inj (by omega) (by omega) k'; omega), nI_p]
    · obtain ⟨i', r1, r2, r3, r4⟩ := ih (by omega) (fun q h1 h2 => by
        by_cases e : q = p
        · rw [e]; exact hlim
        · exact hq q (by omega) h2) f (by omega)
      refine ⟨i', by omega, ?_, r3, r4⟩
      rw [lp_next (b := nI p - 1), r2]
      have h0 := hNc 0 (by omega)
      rw [hb, if_pos (by rw [show N p = c - k + p by omega])]
      rw [Int32.sub_eq_add_neg]
theorem next_l {σ : MS} {k c : Nat} {N : Nat → Nat} (hk : k ≤ 3) (hc : c ≤ 13) (h69 : m_I σ 69 = nI c) (hN : ∀ i, i < k → m_A σ 72 i = nI (N i)) (hNc : ∀ i, i < k → N i + (k - i) ≤ c) : ∃ fl σ', X4_nextNumbers (nI k) σ = some (fl, σ') ∧ Mf [] [72] σ σ' ∧ NxP k c N k fl (m_A σ' 72) ∧ (fl = 0 ∨ fl = 1) := by
  obtain ⟨i', r1, r2, r3, r4⟩ := scan_l hk hc h69 hN hNc k (Nat.le_refl _) (fun q h1 h2 => by omega) fu_ (by unfold fu_; omega)
  unfold X4_nextNumbers
  rw [r2, e_ob]
  rcases Nat.eq_zero_or_pos i' with h0 | h0
  · subst h0
    rw [if_neg (by decide)]
    refine ⟨0, σ, rfl, Mf.rf, ?_, Or.inl rfl⟩
    have := NxP.up (k := k) (c := c) (N := N) (fl := 0) (A := m_A σ 72) (i := 0) rfl k (by omega) r4
    rwa [Nat.zero_add] at this
  · obtain ⟨p, rfl⟩ : ∃ p, i' = p + 1 := ⟨i' - 1, by omega⟩
    rw [Nat.add_sub_cancel] at r3
    have hp : N p + (k - p) < c := by omega
    rw [nI_p, if_pos (nI_pos' (by omega)), e_inN (by omega) (by omega), e_inN (by omega) (by omega), nI_clamp (by omega), hN p (by omega), nI_1]
    obtain ⟨σ', m1, m2, m3, m4⟩ := lp_t (body := fun a : Int32 × MS => X4_nextNumbers_b51 (nI k) a.1 a.2)
      (I := fun m a => ∃ t, a.1 = nI (p + 1 + t) ∧ p + 1 + t ≤ k ∧ m = k - (p + 1 + t) ∧ Mf [] [72] σ a.2 ∧ (∀ i, i < p → m_A a.2 72 i = nI (N i)) ∧ ∀ s, s ≤ t → m_A a.2 72 (p + s) = nI (N p + 1 + s))
      (Q := fun e => Mf [] [72] σ e ∧ (∀ i, i < p → m_A e 72 i = nI (N i)) ∧ ∀ t, t < k - p → m_A e 72 (p + t) = nI (N p + 1 + t))
      (by
        rintro m ⟨x3, σ1⟩ ⟨t, e1, e2, e3, e4, e5, e6⟩
        simp only at e1 e4 e5 e6 ⊢
        subst e1
        unfold X4_nextNumbers_b51
        by_cases ht : p + 1 + t < k
        · rw [if_neg (nI_ge ht (by omega))]
          have hq : nI (p + 1 + t) - 1 = nI (p + t) := by
            rw [show p + 1 + t = (p + t) + 1 by omega, nI_p]
          rw [hq, e_inN (by omega) (by omega), e_inN (by omega) (by omega), nI_clamp (by omega), nI_clamp (by omega), e6 t (Nat.le_refl _), nI_1, nI_1]
          refine Or.inl ⟨_, m - 1, by omega, rfl, t + 1, by rw [show p + 1 + (t + 1) = p + 1 + t + 1 by omega], by omega, by omega, e4.trans (Mf.sA (LI := []) (LA := [72]) (by decide)) (fun _ k => k) (fun _ k => k), fun i hi => ?_, fun s hs => ?_⟩
          · rw [rA_sA, if_neg (by rintro ⟨-, k⟩; omega), e5 i hi]
          · rw [rA_sA]
            by_cases q : s = t + 1
            · rw [if_pos ⟨rfl, by omega⟩, q, show N p + 1 + (t + 1) = N p + 1 + t + 1 by omega]
            · rw [if_neg (by rintro ⟨-, k⟩; omega), e6 s (by omega)]
        · rw [if_pos (nI_le (by omega) (by omega))]
          exact Or.inr ⟨_, rfl, e4, e5, fun s hs => e6 s (by omega)⟩)
      fu_ (k - (p + 1)) (nI (p + 1), s_A σ 72 p (nI (N p + 1))) ⟨0, rfl, by omega, rfl, Mf.sA (by decide), fun i hi => by rw [rA_sA, if_neg (by rintro ⟨-, k⟩; omega), hN i (by omega)], fun s hs => by
        have hs0 : s = 0 := Nat.le_zero.mp hs
        rw [hs0, rA_sA, if_pos ⟨rfl, rfl⟩]⟩ (by unfold fu_; omega)
    rw [nI_1, m1, e_ob]
    refine ⟨1, σ', rfl, m2, ?_, Or.inr rfl⟩
    have hbase : NxP k c N (p + 1) 1 (m_A σ' 72) := by
      unfold NxP
      rw [if_pos hp]
      exact ⟨rfl, m3, m4⟩
    have := hbase.up (k - (p + 1)) (by omega) r4
    rwa [show p + 1 + (k - (p + 1)) = k by omega] at this
