/-! LAWS: runs (own work) -/
set_option maxRecDepth 100000
/-- the model's fold over the tenths: how many soft runs, where the x-th began, how long it was -/
def rF (p : Nat → Bool) (x : Int32) (t : Nat) (s : Nat × Int32 × Int32) : Nat × Int32 × Int32 :=
  if p t = true then
    if t = 0 ∨ p (t - 1) = false then (s.1 + 1, if nI s.1 = x then nI t else s.2.1, if nI s.1 = x then s.2.2 + 1 else s.2.2)
    else (s.1, s.2.1, if nI s.1 - 1 = x then s.2.2 + 1 else s.2.2)
  else s
def rS (p : Nat → Bool) (x : Int32) (t : Nat) : Nat × Int32 × Int32 := it_ (rF p x) (0, -1, 0) t
theorem rS_s {p : Nat → Bool} {x : Int32} {t : Nat} : rS p x (t + 1) = rF p x t (rS p x t) := rfl
theorem nI_inj {a b : Nat} (ha : a < 2 ^ 31) (hb : b < 2 ^ 31) (h : nI a = nI b) : a = b := by
  have h1 := i_eq.mp h
  rw [i_n (by omega), i_n (by omega)] at h1
  omega
theorem nI_p (n : Nat) : nI (n + 1) - 1 = nI n := by rw [← nI_1, Int32.add_sub_cancel]
theorem rS_le {p : Nat → Bool} {x : Int32} : ∀ t, (rS p x t).1 ≤ t := by
  intro t
  induction t with
  | zero => exact Nat.le_refl 0
  | succ t ih =>
    rw [rS_s]
    unfold rF
    split
    · split
      · show (rS p x t).1 + 1 ≤ _; omega
      · show (rS p x t).1 ≤ _; omega
    · omega
/-- behind the x-th run nothing of it changes -/
theorem rS_later {p : Nat → Bool} {K t : Nat} (hK : (rS p (nI K) (t + 1)).1 = K + 1) (hp : p t = false) : ∀ d, t + 1 + d ≤ 700 → K + 1 ≤ (rS p (nI K) (t + 1 + d)).1 ∧ (rS p (nI K) (t + 1 + d)).2 = (rS p (nI K) (t + 1)).2 ∧ ((rS p (nI K) (t + 1 + d)).1 = K + 1 → p (t + d) = false) := by
  intro d
  induction d with
  | zero => intro _; exact ⟨by rw [Nat.add_zero, hK]; exact Nat.le_refl _, rfl, fun _ => hp⟩
  | succ d ih =>
    intro hd
    obtain ⟨h1, h2, h3⟩ := ih (by omega)
    have hle := rS_le (p := p) (x := nI K) (t + 1 + d)
    have e : t + 1 + (d + 1) = (t + 1 + d) + 1 := by omega
    have e2 : t + (d + 1) = t + 1 + d := by omega
    rw [e, e2, rS_s, ← h2]
    obtain ⟨⟨M, A, L⟩, hs⟩ : ∃ s, s = rS p (nI K) (t + 1 + d) := ⟨_, rfl⟩
    rw [← hs] at h1 h3 hle ⊢
    simp only at h1 h3 hle ⊢
    have h0 : t + 1 + d - 1 = t + d := by omega
    unfold rF
    by_cases q : p (t + 1 + d) = true
    · rw [if_pos q, h0]
      by_cases q2 : t + 1 + d = 0 ∨ p (t + d) = false
      · have hne : ¬ nI M = nI K := fun k => by have := nI_inj (by omega) (by omega) k; omega
        rw [if_pos q2, if_neg hne, if_neg hne]
        exact ⟨by show K + 1 ≤ M + 1; omega, rfl, fun k => by have k' : M + 1 = K + 1 := k; omega⟩
      · have hM : ¬ M = K + 1 := fun k => q2 (Or.inr (h3 k))
        have hne : ¬ nI M - 1 = nI K := fun k => by
          obtain ⟨M', rfl⟩ : ∃ M', M = M' + 1 := ⟨M - 1, by omega⟩
          rw [nI_p] at k
          have := nI_inj (by omega) (by omega) k
          omega
        rw [if_neg q2, if_neg hne]
        exact ⟨h1, rfl, fun k => absurd k hM⟩
    · rw [if_neg q]
      exact ⟨h1, rfl, fun _ => by simpa using q⟩
/-- the model's fold is that -/
theorem LaP.re {σ σ' : MS} {n T : Nat} (h : LaP σ n T) (e2 : m_I σ' 2 = m_I σ 2) (e9 : m_A σ' 9 = m_A σ 9) : LaP σ' n T := by
  obtain ⟨a, b, c, d⟩ := h
  exact ⟨by rw [e2, a], b, by rw [e9, c], d⟩
def rE (σ : MS) (s : Nat × Int32 × Int32) : MS := s_I (s_I (s_I σ 65 (nI s.1)) 66 s.2.1) 67 s.2.2
theorem rE_c {σ : MS} {s : Nat × Int32 × Int32} {M : Nat} {A L : Int32} : s_I (s_I (s_I (rE σ s) 65 (nI M)) 66 A) 67 L = rE σ (M, A, L) := by
  refine MS.ext' (fun k => ?_) rfl (fun _ _ => rfl)
  unfold rE
  simp only [rI_sI]
  by_cases h1 : k = 67 <;> by_cases h2 : k = 66 <;> by_cases h3 : k = 65 <;> simp [h1, h2, h3]
theorem rE_67 {σ : MS} {s : Nat × Int32 × Int32} {L : Int32} : s_I (rE σ s) 67 L = rE σ (s.1, s.2.1, L) := by unfold rE; rw [sI_sI]
theorem rE_I {σ : MS} {s : Nat × Int32 × Int32} : m_I (rE σ s) 65 = nI s.1 ∧ m_I (rE σ s) 66 = s.2.1 ∧ m_I (rE σ s) 67 = s.2.2 := ⟨rfl, rfl, rfl⟩
theorem rE_1 {σ : MS} {s : Nat × Int32 × Int32} : s_I (rE σ s) 65 (nI s.1 + 1) = rE σ (s.1 + 1, s.2.1, s.2.2) := by
  refine MS.ext' (fun k => ?_) rfl (fun _ _ => rfl)
  rw [nI_1]
  unfold rE
  simp only [rI_sI]
  by_cases h1 : k = 67 <;> by_cases h2 : k = 66 <;> by_cases h3 : k = 65 <;> simp [h1, h2, h3]
theorem rE_66 {σ : MS} {s : Nat × Int32 × Int32} {A : Int32} : s_I (rE σ s) 66 A = rE σ (s.1, A, s.2.2) := by
  refine MS.ext' (fun k => ?_) rfl (fun _ _ => rfl)
  unfold rE
  simp only [rI_sI]
  by_cases h1 : k = 67 <;> by_cases h2 : k = 66 <;> by_cases h3 : k = 65 <;> simp [h1, h2, h3]
theorem la_next {α ε : Type} {body : α → Option ((α ⊕ ε) × Nat × Nat)} {a b : α} (h : body a = some (.inl b, 0, 0)) (n : Nat) : la_ body (n + 1) a = la_ body n b := by
  rw [la_, h]
  exact bp_0
theorem la_end {α ε : Type} {body : α → Option ((α ⊕ ε) × Nat × Nat)} {a : α} {e : ε} (h : body a = some (.inr e, 0, 0)) (n : Nat) : la_ body (n + 1) a = some (e, 0, 0) := by
  unfold la_
  rw [h]
theorem findsRun_l {σ : MS} {n T : Nat} (h : LaP σ n T) (x : Int32) (p : Nat → Bool) (hp : ∀ t, p t = decide (sh_ (m_A σ 53 0) (m_A σ 63 t) = 0)) : X4_findsRun x σ = some (rE σ (rS p x (T + 1))) := by
  have hT := h.2.2.2
  obtain ⟨k1, -⟩ := for_l (enc := fun (c : Nat × Int32 × Int32) t => (nI t, rE σ c)) (fun a : Int32 × MS => X4_findsRun_b17 x a.1 a.2) T (rF p x) (fun c => rE σ c) (fun _ _ => True) (fun _ _ _ _ => trivial)
    (fun t c ht _ => by
      show X4_findsRun_b17 x (nI t) (rE σ c) = _
      have hL : LaP (rE σ c) n T := h.re rfl rfl
      have hs : ∀ s, s ≤ 600 → X4_isSharp (nI s) (rE σ c) = some (sh_ (m_A σ 53 0) (m_A σ 63 s)) := fun s hs => X4_isSharp_l hs
      have hpf : ∀ s, p s = false → sh_ (m_A σ 53 0) (m_A σ 63 s) = 1 := fun s q => by
        rw [hp] at q
        rcases sh_01 (hole := m_A σ 53 0) (v := m_A σ 63 s) with k | k
        · rw [k] at q; simp at q
        · exact k
      have hpt : ∀ s, p s = true → sh_ (m_A σ 53 0) (m_A σ 63 s) = 0 := fun s q => by
        rw [hp] at q
        simpa using q
      have h82 : X4_findsRun_j82 x (nI t) (rE σ c) = some (Sum.inl (nI (t + 1), rE σ (c.1, c.2.1, if nI c.1 - 1 = x then c.2.2 + 1 else c.2.2))) := by
        unfold X4_findsRun_j82 X4_findsRun_j102 X4_findsRun_j106
        rw [rE_I.1, rE_I.2.2, rE_67, rE_67, nI_1]
        by_cases q : nI c.1 - 1 = x
        · rw [if_pos q, if_pos q]
        · rw [if_neg q, if_neg q, Int32.add_zero]
      have h82' : ∀ c' : Nat × Int32 × Int32, X4_findsRun_j82 x (nI t) (rE σ c') = some (Sum.inl (nI (t + 1), rE σ (c'.1, c'.2.1, if nI c'.1 - 1 = x then c'.2.2 + 1 else c'.2.2))) := by
        intro c
        unfold X4_findsRun_j82 X4_findsRun_j102 X4_findsRun_j106
        rw [rE_I.1, rE_I.2.2, rE_67, rE_67, nI_1]
        by_cases q : nI c.1 - 1 = x
        · rw [if_pos q, if_pos q]
        · rw [if_neg q, if_neg q, Int32.add_zero]
      have h50 : X4_findsRun_j50 x (nI t) (rE σ c) = some (Sum.inl (nI (t + 1), rE σ (c.1 + 1, if nI c.1 = x then nI t else c.2.1, if nI c.1 = x then c.2.2 + 1 else c.2.2))) := by
        unfold X4_findsRun_j50 X4_findsRun_j79
        rw [rE_I.1, rE_1, rE_I.2.1, rE_66, rE_66, h82', h82', nI_1]
        simp only [nI_p]
        by_cases q : nI c.1 = x
        · rw [if_pos q, if_pos q]; simp only [if_pos q]
        · rw [if_neg q, if_neg q]; simp only [if_neg q]
      unfold X4_findsRun_b17 rF
      rw [hL.l, e_ob, if_neg (nI_nlt ht (by omega)), hs t (by omega), e_ob]
      by_cases q : p t = true
      · rw [hpt t q, if_pos rfl, if_pos q]
        by_cases q0 : t = 0
        · rw [q0] at h50 ⊢
          rw [if_pos (show nI 0 = 0 from rfl), h50, if_pos (Or.inl rfl)]
        · obtain ⟨u, rfl⟩ : ∃ u, t = u + 1 := ⟨t - 1, by omega⟩
          rw [if_neg (nI_ne0 (by omega) (by omega)), nI_p, hs u (by omega), e_ob]
          have hu : u + 1 - 1 = u := by omega
          rw [hu]
          cases q2 : p u with
          | true => rw [hpt u q2, if_pos rfl, h82, if_neg (show ¬ (u + 1 = 0 ∨ true = false) by simp)]
          | false => rw [hpf u q2, if_neg nn01, h50, if_pos (Or.inr rfl)]
      · have q' : p t = false := by simpa using q
        rw [hpf t q', if_neg nn01, if_neg q]
        unfold X4_findsRun_j106
        rw [nI_1])
    (fun c _ => by
      show X4_findsRun_b17 x (nI (T + 1)) (rE σ c) = _
      have hL : LaP (rE σ c) n T := h.re rfl rfl
      unfold X4_findsRun_b17
      rw [hL.l, e_ob, if_pos (nI_lt (by omega) (by omega))]) (0, -1, 0) trivial (n := fu_) (by unfold fu_; omega)
  unfold X4_findsRun
  rw [show (lp_ (fun a : Int32 × MS => X4_findsRun_b17 x a.1 a.2) fu_ (0, s_I (s_I (s_I σ 65 0) 66 (-1)) 67 0)) = _ from k1, e_ob]
  rfl
/-- the component's loop -/
theorem runs_c {g : GS} {a u sc T : Nat} (x what : Int32) (p : Nat → Bool) (hT : T ≤ 600) (h1 : gK g a = 1) (h2 : gR g a 0 = sc + 1) (h3 : gK g sc = 2) (h4 : gI g sc 6 = nI T) (h5 : gK g u = 10)
    (hs : ∀ t, t ≤ T → X11_isSharp_2 u (nI t) g = some (if p t = true then 0 else 1)) :
    ∃ e, la_ (fun a1 : Int32 × Int32 × Int32 × GS => X1_runs_b19 a x what u a1.1 a1.2.1 a1.2.2.1 a1.2.2.2) fu_ (0, 0, 0, g) = some (e, 0, 0) ∧
      ((∃ K sz t, e = .inl (nI sz, nI t, g) ∧ x = nI K ∧ K < (rS p x (T + 1)).1 ∧ (rS p x (T + 1)).2.1 = nI t - nI sz ∧ (rS p x (T + 1)).2.2 = nI sz) ∨ (e = .inr (nI (rS p x (T + 1)).1, g) ∧ ∀ k, k < (rS p x (T + 1)).1 → nI k ≠ x)) := by
  have key : ∀ d t n sz, t + d = T + 2 → n ≤ t → sz ≤ t → (∀ k, k < n → nI k ≠ x) →
      ((∀ k, k < (rS p x (min t (T + 1))).1 → nI k ≠ x) → (rS p x (min t (T + 1))).2.2 = 0) →
      (sz = 0 → (t = 0 ∨ p (t - 1) = false ∨ t = T + 2 ∨ t = T + 1 ∧ p T = false) ∧ (rS p x (min t (T + 1))).1 = n) →
      (0 < sz → 1 ≤ t ∧ t ≤ T + 1 ∧ p (t - 1) = true ∧ (rS p x t).1 = n + 1 ∧ (nI n = x → (rS p x t).2.1 = nI t - nI sz ∧ (rS p x t).2.2 = nI sz)) →
      ∀ f, d < f → ∃ e, la_ (fun a1 : Int32 × Int32 × Int32 × GS => X1_runs_b19 a x what u a1.1 a1.2.1 a1.2.2.1 a1.2.2.2) f (nI n, nI sz, nI t, g) = some (e, 0, 0) ∧
      ((∃ K sz t, e = .inl (nI sz, nI t, g) ∧ x = nI K ∧ K < (rS p x (T + 1)).1 ∧ (rS p x (T + 1)).2.1 = nI t - nI sz ∧ (rS p x (T + 1)).2.2 = nI sz) ∨ (e = .inr (nI (rS p x (T + 1)).1, g) ∧ ∀ k, k < (rS p x (T + 1)).1 → nI k ≠ x)) := by
    intro d
    induction d with
    | zero =>
      intro t n sz ht hn hsz i1 i2 i3 i4 f hf
      obtain rfl : t = T + 2 := by omega
      obtain ⟨f', rfl⟩ : ∃ f', f = f' + 1 := ⟨f - 1, by omega⟩
      have hz : sz = 0 := by
        rcases Nat.eq_zero_or_pos sz with k | k
        · exact k
        · have := (i4 k).2.1; omega
      have hm : min (T + 2) (T + 1) = T + 1 := by omega
      obtain ⟨-, i3'⟩ := i3 hz
      rw [hm] at i3'
      refine ⟨.inr (nI n, g), ?_, Or.inr ⟨by rw [i3'], by rw [i3']; exact i1⟩⟩
      refine la_end ?_ f'
      show X1_runs_b19 a x what u (nI n) (nI sz) (nI (T + 2)) g = _
      unfold X1_runs_b19
      rw [e_wk h1, h2, e_nn, e_wk h3, h4, nI_1, if_pos (nI_lt (by omega) (by omega))]
    | succ d ih =>
      intro t n sz ht hn hsz i1 i2 i3 i4 f hf
      obtain ⟨f', rfl⟩ : ∃ f', f = f' + 1 := ⟨f - 1, by omega⟩
      have ht1 : t ≤ T + 1 := by omega
      have hmt : min t (T + 1) = t := by omega
      rw [hmt] at i2 i3
      have go : ∀ n' sz', X1_runs_b19 a x what u (nI n) (nI sz) (nI t) g = some (.inl (nI n', nI sz', nI (t + 1), g), 0, 0) → n' ≤ t + 1 → sz' ≤ t + 1 → (∀ k, k < n' → nI k ≠ x) →
          ((∀ k, k < (rS p x (min (t + 1) (T + 1))).1 → nI k ≠ x) → (rS p x (min (t + 1) (T + 1))).2.2 = 0) →
          (sz' = 0 → (t + 1 = 0 ∨ p (t + 1 - 1) = false ∨ t + 1 = T + 2 ∨ t + 1 = T + 1 ∧ p T = false) ∧ (rS p x (min (t + 1) (T + 1))).1 = n') →
          (0 < sz' → 1 ≤ t + 1 ∧ t + 1 ≤ T + 1 ∧ p (t + 1 - 1) = true ∧ (rS p x (t + 1)).1 = n' + 1 ∧ (nI n' = x → (rS p x (t + 1)).2.1 = nI (t + 1) - nI sz' ∧ (rS p x (t + 1)).2.2 = nI sz')) →
          ∃ e, la_ (fun a1 : Int32 × Int32 × Int32 × GS => X1_runs_b19 a x what u a1.1 a1.2.1 a1.2.2.1 a1.2.2.2) (f' + 1) (nI n, nI sz, nI t, g) = some (e, 0, 0) ∧
          ((∃ K sz t, e = .inl (nI sz, nI t, g) ∧ x = nI K ∧ K < (rS p x (T + 1)).1 ∧ (rS p x (T + 1)).2.1 = nI t - nI sz ∧ (rS p x (T + 1)).2.2 = nI sz) ∨ (e = .inr (nI (rS p x (T + 1)).1, g) ∧ ∀ k, k < (rS p x (T + 1)).1 → nI k ≠ x)) := by
        intro n' sz' hb b1 b2 b3 b4 b5 b6
        obtain ⟨e, c1, c2⟩ := ih (t + 1) n' sz' (by omega) b1 b2 b3 b4 b5 b6 f' (by omega)
        refine ⟨e, ?_, c2⟩
        rw [la_next (b := (nI n', nI sz', nI (t + 1), g)) hb f']
        exact c1
      have hnT : ¬ nI (T + 1) < nI t := nI_nlt (by omega) (by omega)
      -- a tenth that ends a run, or nothing
      have ends : X1_runs_b19 a x what u (nI n) (nI sz) (nI t) g = X1_runs_j60 a x what u (nI n) (nI sz) (nI t) g → (t ≤ T → p t = false) → ∃ e, la_ (fun a1 : Int32 × Int32 × Int32 × GS => X1_runs_b19 a x what u a1.1 a1.2.1 a1.2.2.1 a1.2.2.2) (f' + 1) (nI n, nI sz, nI t, g) = some (e, 0, 0) ∧
          ((∃ K sz t, e = .inl (nI sz, nI t, g) ∧ x = nI K ∧ K < (rS p x (T + 1)).1 ∧ (rS p x (T + 1)).2.1 = nI t - nI sz ∧ (rS p x (T + 1)).2.2 = nI sz) ∨ (e = .inr (nI (rS p x (T + 1)).1, g) ∧ ∀ k, k < (rS p x (T + 1)).1 → nI k ≠ x)) := by
        intro hb hpt
        have hsame : rS p x (min (t + 1) (T + 1)) = rS p x t := by
          by_cases q : t ≤ T
          · rw [show min (t + 1) (T + 1) = t + 1 by omega, rS_s]
            unfold rF
            rw [hpt q, if_neg (by simp)]
          · rw [show min (t + 1) (T + 1) = t by omega]
        have hprev : t + 1 = 0 ∨ p (t + 1 - 1) = false ∨ t + 1 = T + 2 ∨ t + 1 = T + 1 ∧ p T = false := by
          by_cases q : t ≤ T
          · exact Or.inr (Or.inl (by rw [Nat.add_sub_cancel]; exact hpt q))
          · exact Or.inr (Or.inr (Or.inl (by omega)))
        unfold X1_runs_j60 at hb
        rcases Nat.eq_zero_or_pos sz with hz | hz
        · obtain ⟨-, e3⟩ := i3 hz
          subst hz
          rw [if_pos (show nI 0 ≤ 0 by decide)] at hb
          unfold X1_runs_j86 X1_runs_j94 X1_runs_j97 at hb
          rw [if_pos (show nI 0 ≤ 0 by decide), nI_1] at hb
          refine go n 0 hb (by omega) (by omega) i1 (by rw [hsame]; exact i2) (fun _ => ⟨hprev, by rw [hsame]; exact e3⟩) (fun k => by omega)
        · obtain ⟨j1, j2, j3, j4, j5⟩ := i4 hz
          rw [if_neg (nI_nle hz (by omega))] at hb
          by_cases hx : nI n = x
          · rw [if_pos hx] at hb
            obtain ⟨j6, j7⟩ := j5 hx
            refine ⟨.inl (nI sz, nI t, g), ?_, Or.inl ⟨n, sz, t, rfl, hx.symm, ?_⟩⟩
            · exact la_end hb f'
            · by_cases q : t ≤ T
              · have hsm : rS p x (t + 1) = rS p x t := by
                  rw [rS_s]
                  unfold rF
                  rw [hpt q, if_neg (by simp)]
                subst hx
                obtain ⟨l1, l2, -⟩ := rS_later (p := p) (K := n) (t := t) (by rw [hsm, j4]) (hpt q) (T - t) (by omega)
                rw [show t + 1 + (T - t) = T + 1 by omega] at l1 l2
                exact ⟨by omega, by rw [l2, hsm, j6], by rw [l2, hsm, j7]⟩
              · rw [show T + 1 = t by omega]
                exact ⟨by omega, j6, j7⟩
          · rw [if_neg hx] at hb
            unfold X1_runs_j86 X1_runs_j94 X1_runs_j97 at hb
            rw [if_neg (nI_nle hz (by omega)), nI_1, nI_1] at hb
            refine go (n + 1) 0 hb (by omega) (by omega) (fun k hk => ?_) (by rw [hsame]; exact i2) (fun _ => ⟨hprev, by rw [hsame]; exact j4⟩) (fun k => by omega)
            rcases Nat.lt_or_ge k n with q | q
            · exact i1 k q
            · rw [show k = n by omega]; exact hx
      by_cases hTt : t ≤ T
      · have hn2 : ¬ nI T < nI t := nI_nlt (by omega) (by omega)
        by_cases hpt : p t = true
        · have hb : X1_runs_b19 a x what u (nI n) (nI sz) (nI t) g = some (.inl (nI n, nI (sz + 1), nI (t + 1), g), 0, 0) := by
            unfold X1_runs_b19 X1_runs_j97
            rw [e_wk h1, h2, e_nn, e_wk h3, h4, nI_1, if_neg hnT, e_nn, e_wk h3, h4, if_neg hn2, e_wk h5, hs t hTt, if_pos hpt, e_ob, if_pos rfl, nI_1, nI_1]
          have hm1 : min (t + 1) (T + 1) = t + 1 := by omega
          rcases Nat.eq_zero_or_pos sz with hz | hz
          · obtain ⟨e2, e3⟩ := i3 hz
            have hcond : t = 0 ∨ p (t - 1) = false := by
              rcases e2 with k | k | k | ⟨k, -⟩
              · exact Or.inl k
              · exact Or.inr k
              · omega
              · omega
            have hnew : rS p x (t + 1) = (n + 1, if nI n = x then nI t else (rS p x t).2.1, if nI n = x then (rS p x t).2.2 + 1 else (rS p x t).2.2) := by
              rw [rS_s]
              unfold rF
              rw [if_pos hpt, if_pos hcond, e3]
            refine go n (sz + 1) hb (by omega) (by omega) i1 ?_ (fun k => by omega) (fun _ => ⟨by omega, by omega, by rw [Nat.add_sub_cancel]; exact hpt, by rw [hnew], fun hx => ?_⟩)
            · rw [hm1, hnew]
              intro hk
              have hx : ¬ nI n = x := hk n (by show n < n + 1; omega)
              show (if nI n = x then (rS p x t).2.2 + 1 else (rS p x t).2.2) = 0
              rw [if_neg hx]
              exact i2 (by rw [e3]; exact i1)
            · rw [hnew]
              show (if nI n = x then nI t else (rS p x t).2.1) = _ ∧ (if nI n = x then (rS p x t).2.2 + 1 else (rS p x t).2.2) = _
              rw [if_pos hx, if_pos hx, i2 (by rw [e3]; exact i1), hz]
              exact ⟨by rw [show nI (0 + 1) = 1 from rfl, nI_p], rfl⟩
          · obtain ⟨j1, j2, j3, j4, j5⟩ := i4 hz
            have hcond : ¬ (t = 0 ∨ p (t - 1) = false) := by
              rintro (k | k)
              · omega
              · rw [j3] at k; cases k
            have hnew : rS p x (t + 1) = (n + 1, (rS p x t).2.1, if nI n = x then (rS p x t).2.2 + 1 else (rS p x t).2.2) := by
              rw [rS_s]
              unfold rF
              rw [if_pos hpt, if_neg hcond, j4, nI_p]
            refine go n (sz + 1) hb (by omega) (by omega) i1 ?_ (fun k => by omega) (fun _ => ⟨by omega, by omega, by rw [Nat.add_sub_cancel]; exact hpt, by rw [hnew], fun hx => ?_⟩)
            · rw [hm1, hnew]
              intro hk
              have hx : ¬ nI n = x := hk n (by show n < n + 1; omega)
              show (if nI n = x then (rS p x t).2.2 + 1 else (rS p x t).2.2) = 0
              rw [if_neg hx]
              exact i2 (by rw [j4]; exact hk)
            · obtain ⟨j6, j7⟩ := j5 hx
              rw [hnew]
              show (rS p x t).2.1 = _ ∧ (if nI n = x then (rS p x t).2.2 + 1 else (rS p x t).2.2) = _
              rw [if_pos hx, j6, j7, nI_1]
              refine ⟨?_, rfl⟩
              rw [← nI_1, ← nI_1]
              rw [Int32.sub_eq_add_neg, Int32.sub_eq_add_neg, Int32.neg_add, Int32.add_assoc, Int32.sub_eq_add_neg, Int32.add_comm (-nI sz) (-1), ← Int32.add_assoc 1, Int32.add_right_neg, Int32.zero_add]
        · refine ends ?_ (fun _ => by simpa using hpt)
          unfold X1_runs_b19
          rw [e_wk h1, h2, e_nn, e_wk h3, h4, nI_1, if_neg hnT, e_nn, e_wk h3, h4, if_neg hn2, e_wk h5, hs t hTt, if_neg hpt, e_ob, if_neg nn01]
      · refine ends ?_ (fun k => absurd k hTt)
        have hn2 : nI T < nI t := nI_lt (by omega) (by omega)
        unfold X1_runs_b19
        rw [e_wk h1, h2, e_nn, e_wk h3, h4, nI_1, if_neg hnT, e_nn, e_wk h3, h4, if_pos hn2]
  exact key (T + 2) 0 0 0 (by omega) (Nat.le_refl _) (Nat.le_refl _) (fun k hk => by omega) (fun _ => rfl) (fun _ => ⟨Or.inl rfl, rfl⟩) (fun k => by omega) fu_ (by unfold fu_; omega)
theorem op_runs {a o : Nat} {g : GS} {σ : MS} (hr : Rel a o g σ) (x what : Int32) : OpT [(1, 1)] a o (X1_runs a x what g) (X4_runs x what σ) := by
  obtain ⟨ρ, sc, v, n, k, h, y, m, T, hp⟩ := hr
  have hp0 := hp.m (s0_eq (c := 0))
  unfold X1_runs X4_runs
  cases hw : wi_ what 0 1 with
  | false =>
    refine OpT.ex (e := 1) (q := gz g) (r := 0) (g' := g) (σ' := s_I (s_I σ 0 0) 0 1) (dc := 1) (ds := 6) ?_ ?_ (hp0.r s0_eq) (by omega) (by omega) (List.mem_cons_self)
    · rw [X1_oneOf_f hw, e_tcr, e_b0]
    · rw [X4_isWhat_f s0_0 hw, e_cb, if_pos rfl]
  | true =>
    rw [X1_oneOf_t hw, e_tcl, bp_0, X4_isWhat_t s0_0 hw, e_cb, if_neg nn01]
    obtain ⟨g1, σ1, b1, b2, b3, b4, b5, b6⟩ := take_l hp0
    have hT6 := b3.2.2.2
    have hx := b3.x
    have hof := b3.of
    have hla := b3.la
    have hcw := b3.1.1
    obtain ⟨p, hpd⟩ : ∃ p : Nat → Bool, ∀ t, p t = decide (sh_ (m_A σ1 53 0) (m_A σ1 63 t) = 0) := ⟨_, fun _ => rfl⟩
    have hf := findsRun_l hla x p hpd
    obtain ⟨e, c1, c2⟩ := runs_c (g := g1) (a := a) (u := gz g) (sc := sc) x what p hT6 hcw.1.1 hcw.1.2.2.2.1 hcw.2.2.2.1.1 (by rw [hcw.2.2.2.1.2.2.2.2, b3.2.2.1]) hx.2.2.2.1 (fun t ht => by
      rw [X11_isSharp2_l hof hx.1 hx.2.1 ht, hx.2.2.1, hpd]
      rcases sh_01 (hole := m_A σ1 53 0) (v := m_A σ1 63 t) with q | q
      · rw [q]; rfl
      · rw [q]; rfl)
    have hM : ∀ s, Mf [65, 66, 67] [57, 58, 61, 62, 63] (s_I σ 0 0) (rE σ1 s) := fun s => by
      refine ⟨fun k hk => ?_, fun j hj i => b6.A hj i⟩
      rw [← b6.I (show k ∉ [] by simp)]
      unfold rE
      rw [rI_sI, rI_sI, rI_sI, if_neg (fun q => hk (by simp [q])), if_neg (fun q => hk (by simp [q])), if_neg (fun q => hk (by simp [q]))]
    have hrel := hp0.q b4 (nr_ag (r := 9)) ((hM (rS p x (T + 1))).eq (by decide) (by decide))
    have hth : m_I (rE σ1 (rS p x (T + 1))) 0 = 0 := by rw [(hM _).I (by decide)]; rfl
    have hMle := rS_le (p := p) (x := x) (T + 1)
    rw [e_wk hp.1.1.1.1, b1, e_ca, c1, e_oa, bp_0, b2, e_ob, hf, e_ob]
    rcases c2 with ⟨K, sz, t, rfl, rfl, hK, hA, hL⟩ | ⟨rfl, hno⟩
    · have h1 : ¬ nI K < -1 := by rw [i_lt, i_n (by omega), k_n1]; omega
      have h2 : ¬ nI (rS p (nI K) (T + 1)).1 ≤ nI K := nI_ge hK (by omega)
      have h3 : ¬ nI K = -1 := by rw [i_eq, i_n (by omega), k_n1]; omega
      rw [if_neg h1, rE_I.1, if_neg h2]
      unfold X4_runs_j44
      rw [X4_right1 hth, e_cb, if_neg nn01, if_neg h3, rE_I.2.1, rE_I.2.2, hA, hL]
      by_cases hwh : what = 0
      · rw [if_pos hwh]
        refine OpT.ok (dc := 4) (ds := 1811) ?_ rfl hrel (by omega) (by omega) hth
        show bp_ 4 1811 (if what = 0 then _ else _) = _
        rw [if_pos hwh, e_b0]
      · rw [if_neg hwh]
        refine OpT.ok (dc := 4) (ds := 1811) ?_ rfl hrel (by omega) (by omega) hth
        show bp_ 4 1811 (if what = 0 then _ else _) = _
        rw [if_neg hwh, e_b0]
    · show OpT _ _ _ (bp_ 4 1811 (if x = -1 then X1_runs_j113 (nI (rS p x (T + 1)).1) 1 g1 else X1_runs_j113 (nI (rS p x (T + 1)).1) 0 g1)) _
      unfold X1_runs_j113
      by_cases hx1 : x = -1
      · have h1 : ¬ x < -1 := by rw [hx1]; decide
        have h2 : ¬ nI (rS p x (T + 1)).1 ≤ x := by rw [i_le, i_n (by omega), hx1, k_n1]; omega
        rw [if_neg h1, rE_I.1, if_neg h2]
        unfold X4_runs_j44
        rw [X4_right1 hth, e_cb, if_neg nn01, if_pos hx1, if_pos hx1, X1_found_t, e_tcl, bp_0, rE_I.1]
        exact OpT.ok (dc := 4) (ds := 1811) (by rw [e_b0]) rfl hrel (by omega) (by omega) hth
      · have hbad : OpT [(1, 1)] a o (bp_ 4 1811 (tc_ (X1_found 0 g1) (fun e37 g36 => some ((.inr e37, g36), 0, 0)) fun r35 g36 => some ((.inl (nI (rS p x (T + 1)).1), g36), 0, 0))) (X4_runs_j43 x what (rE σ1 (rS p x (T + 1)))) := by
          unfold X4_runs_j43 X4_runs_j44
          rw [X1_found_f, e_tcr, e_b0, e_bp, X4_right0 hth (by decide), e_cb, if_pos rfl]
          refine OpT.ex (dc := 1 + 4) (ds := 6 + 1811) rfl rfl ?_ (by omega) (by omega) List.mem_cons_self
          obtain ⟨ρ', sc', v', n', k', h', y', m', T', hp'⟩ := hrel
          exact hp'.r s0_eq
        rw [if_neg hx1]
        by_cases h1 : x < -1
        · rw [if_pos h1]; exact hbad
        · have h2 : nI (rS p x (T + 1)).1 ≤ x := by
            rcases Int.lt_or_le x.toInt 0 with q | q
            · rw [i_lt, k_n1] at h1
              rw [i_eq, k_n1] at hx1
              omega
            · obtain ⟨K, rfl, q2, q3⟩ := i_nat q
              rcases Nat.lt_or_ge K (rS p (nI K) (T + 1)).1 with q4 | q4
              · exact absurd rfl (hno K q4)
              · exact nI_le q4 (by omega)
          rw [if_neg h1, rE_I.1, if_pos h2]; exact hbad
