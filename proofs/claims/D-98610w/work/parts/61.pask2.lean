/-! LAWS: first soft tenth, swings, turned, what has been seen (own work) -/
set_option maxRecDepth 100000
theorem soft_l {g : GS} {u oa T x n : Nat} {σ : MS} (h : OfP g u oa T (m_A σ 63)) (hx : gR g u 0 = x + 1) (hk : gK g x = 3) (h0 : gI g x 0 = m_A σ 53 0) (hL : LaP σ n T) : ∃ r, X11_firstSoft u g = some r ∧ X4_firstSoft σ = some r := by
  have hh := h
  have hT := hL.2.2.2
  obtain ⟨h1, ⟨a, sc, a1, a2, a3, a4, a5⟩, h3, h4⟩ := h
  obtain ⟨e, e', m1, m2, m3⟩ := lp2_t (body := fun a => X11_firstSoft_b2 u g a) (body' := fun a => X4_firstSoft_b2 σ a) (I := fun k a b => ∃ t, a = nI t ∧ b = nI t ∧ t ≤ T + 1 ∧ k = T + 1 - t) (Q := fun e e' => e = e')
    (by
      rintro k a b ⟨t, rfl, rfl, t1, t2⟩
      unfold X11_firstSoft_b2 X4_firstSoft_b2
      rw [e_wk h1, a1, e_nn, e_wk a2, a3, e_nn, e_wk a4, a5, hL.l, e_ob]
      by_cases ht : t ≤ T
      · rw [if_neg (nI_nlt ht (by omega)), if_neg (nI_nlt ht (by omega)), X11_isSharp2_l hh hx hk ht, e_ob, X4_isSharp_l (by omega), e_ob, h0]
        rcases sh_01 (hole := m_A σ 53 0) (v := m_A σ 63 t) with q | q
        · rw [q, if_pos rfl]
          exact Or.inr ⟨_, _, rfl, rfl, rfl⟩
        · rw [q, if_neg (by decide)]
          exact Or.inl ⟨_, _, k - 1, by omega, rfl, rfl, t + 1, nI_1 t, nI_1 t, by omega, by omega⟩
      · rw [if_pos (nI_lt (by omega) (by omega)), if_pos (nI_lt (by omega) (by omega))]
        exact Or.inr ⟨_, _, rfl, rfl, rfl⟩)
    fu_ (T + 1) 0 0 ⟨0, rfl, rfl, Nat.zero_le _, rfl⟩ (by unfold fu_; omega)
  subst m3
  refine ⟨e.elim id (fun _ => -1), ?_, ?_⟩
  · unfold X11_firstSoft
    rw [m1, e_ob]
    cases e <;> rfl
  · unfold X4_firstSoft
    rw [m2, e_ob]
    cases e <;> rfl
/-! swings -/
def sg_ (v : Int32) : Int32 := if 0 < v then 1 else if v < 0 then -1 else 0
theorem sg_all : ∀ n : Fin 1999, J19_signum (Int32.ofInt ((n.val : Int) - 999)) = some (sg_ (Int32.ofInt ((n.val : Int) - 999))) := by decide +kernel
theorem sg_l {v : Int32} (h : -999 ≤ v.toInt ∧ v.toInt ≤ 999) : J19_signum v = some (sg_ v) := by
  have e : v = Int32.ofInt ((((v.toInt + 999).toNat : Nat) : Int) - 999) := by
    rw [i_eq, Int32.toInt_ofInt_of_le (by omega) (by omega)]
    omega
  rw [e]
  exact sg_all ⟨(v.toInt + 999).toNat, by omega⟩
def sF (f : Nat → Int32) : Nat → Int32 × Int32 → Int32 × Int32 := fun t c => if sg_ (f t) = 0 then c else (if c.2 = -(sg_ (f t)) then c.1 + 1 else c.1, sg_ (f t))
theorem sg_3 {v : Int32} : sg_ v = 0 ∨ sg_ v = 1 ∨ sg_ v = -1 := by
  unfold sg_
  split
  · exact Or.inr (Or.inl rfl)
  · split
    · exact Or.inr (Or.inr rfl)
    · exact Or.inl rfl
theorem X11_swings_l {g : GS} {u oa T : Nat} {f : Nat → Int32} (h : OfP g u oa T f) (hf : ∀ t, t ≤ T → -999 ≤ (f t).toInt ∧ (f t).toInt ≤ 999) : X11_swings u g = some (it_ (sF f) (0, 0) (T + 1)).1 := by
  obtain ⟨h1, ⟨a, sc, a1, a2, a3, a4, a5⟩, h3, h4, h5, h6, h7⟩ := h
  obtain ⟨k1, -⟩ := for_l (enc := fun (c : Int32 × Int32) t => (c.1, c.2, nI t)) (fun a : Int32 × Int32 × Int32 => X11_swings_b6 u g a.1 a.2.1 a.2.2) T (sF f) (fun c => c.1) (fun _ _ => True) (fun _ _ _ _ => trivial)
    (fun t c ht _ => by
      show X11_swings_b6 u g c.1 c.2 (nI t) = some (Sum.inl ((sF f t c).1, (sF f t c).2, nI (t + 1)))
      unfold X11_swings_b6 X11_swings_j49 X11_swings_j52 sF
      rw [e_wk h1, a1, e_nn, e_wk a2, a3, e_nn, e_wk a4, a5, if_neg (nI_nlt ht (by omega)), h4, e_nn, e_rk (by rw [h5]), e_inN (by rw [h6]; omega) (by rw [h6]; omega), nI_clamp (by omega), h7 t ht, sg_l (hf t ht), e_ob, nI_1]
      by_cases q : sg_ (f t) = 0
      · rw [if_pos q, if_pos q]
      · rw [if_neg q, if_neg q]
        split <;> rfl)
    (fun c _ => by
      show X11_swings_b6 u g c.1 c.2 (nI (T + 1)) = _
      unfold X11_swings_b6
      rw [e_wk h1, a1, e_nn, e_wk a2, a3, e_nn, e_wk a4, a5, if_pos (nI_lt (by omega) (by omega))]) (0, 0) trivial (n := fu_) (by unfold fu_; omega)
  unfold X11_swings
  rw [show (lp_ (fun a : Int32 × Int32 × Int32 => X11_swings_b6 u g a.1 a.2.1 a.2.2) fu_ (0, 0, 0)) = _ from k1, e_ob]
theorem X4_swings_l {σ : MS} {n T : Nat} (h : LaP σ n T) : X4_swings σ = some (it_ (sF (m_A σ 63)) (0, 0) (T + 1)).1 := by
  have hT := h.2.2.2
  obtain ⟨k1, -⟩ := for_l (enc := fun (c : Int32 × Int32) t => (c.1, c.2, nI t)) (fun a : Int32 × Int32 × Int32 => X4_swings_b6 σ a.1 a.2.1 a.2.2) T (sF (m_A σ 63)) (fun c => c.1) (fun _ c => c.2 = 0 ∨ c.2 = 1 ∨ c.2 = -1)
    (fun t c _ hc => by
      unfold sF
      split
      · exact hc
      · exact sg_3)
    (fun t c ht hc => by
      show X4_swings_b6 σ c.1 c.2 (nI t) = some (Sum.inl ((sF (m_A σ 63) t c).1, (sF (m_A σ 63) t c).2, nI (t + 1)))
      have key : X4_swings_j41 c.1 c.2 (nI t) (sg_ (m_A σ 63 t)) σ = some (Sum.inl ((sF (m_A σ 63) t c).1, (sF (m_A σ 63) t c).2, nI (t + 1))) := by
        unfold X4_swings_j41 X4_swings_j72 X4_swings_j66 X4_swings_j67 sF
        obtain ⟨c1, c2⟩ := c
        simp only at hc ⊢
        rcases sg_3 (v := m_A σ 63 t) with q | q | q <;> rw [q] <;> rcases hc with rfl | rfl | rfl <;> simp only [X4_swings_j72, Int32.add_zero, nI_1] <;> rfl
      have e : sg_ (m_A σ 63 t) = if m_A σ 63 t ≤ 0 then if 0 ≤ m_A σ 63 t then 0 else -1 else 1 := by
        unfold sg_
        simp only [i_le, i_lt, k_0]
        split <;> (try split) <;> (try split) <;> (try split) <;> first | rfl | omega
      unfold X4_swings_b6
      rw [h.l, e_ob, if_neg (nI_nlt ht (by omega)), e_inN (by omega) (by omega), nI_clamp (by omega)]
      rw [← key, e]
      by_cases q1 : m_A σ 63 t ≤ 0
      · rw [if_pos q1, if_pos q1, e_inN (by omega) (by omega)]
        by_cases q2 : 0 ≤ m_A σ 63 t
        · rw [if_pos q2, if_pos q2]
        · rw [if_neg q2, if_neg q2]
      · rw [if_neg q1, if_neg q1])
    (fun c _ => by
      show X4_swings_b6 σ c.1 c.2 (nI (T + 1)) = _
      unfold X4_swings_b6
      rw [h.l, e_ob, if_pos (nI_lt (by omega) (by omega))]) (0, 0) (Or.inl rfl) (n := fu_) (by unfold fu_; omega)
  unfold X4_swings
  rw [show (lp_ (fun a : Int32 × Int32 × Int32 => X4_swings_b6 σ a.1 a.2.1 a.2.2) fu_ (0, 0, 0)) = _ from k1, e_ob]
/-! how far the ring has been turned -/
def tF (f : Nat → Int32) : Nat → Int32 → Int32 := fun t c => c + jabs_ (f (t + 1) - f t)
theorem X11_turned_l {g : GS} {u oa ra T : Nat} {f f2 : Nat → Int32} (h : OfP g u oa T f) (hr : gR g u 2 = ra + 1 ∧ gK g ra = 100 ∧ gN g ra = 601 ∧ ∀ t, t ≤ T → gI g ra t = f2 t) : X11_turned u g = some (it_ (tF f2) 0 T) := by
  obtain ⟨h1, ⟨a, sc, a1, a2, a3, a4, a5⟩, h3, -⟩ := h
  obtain ⟨r1, r2, r3, r4⟩ := hr
  have he : ∀ c, X11_turned_b4 u g c (nI (T + 1)) = some (.inr c) := fun c => by
    unfold X11_turned_b4
    rw [e_wk h1, a1, e_nn, e_wk a2, a3, e_nn, e_wk a4, a5, if_pos (nI_lt (by omega) (by omega))]
  have hs : ∀ t c, t < T → X11_turned_b4 u g c (nI (t + 1)) = some (.inl (c + jabs_ (f2 (t + 1) - f2 t), nI (t + 2))) := fun t c ht => by
    unfold X11_turned_b4
    rw [e_wk h1, a1, e_nn, e_wk a2, a3, e_nn, e_wk a4, a5, if_neg (nI_nlt (by omega) (by omega)), r1, e_nn, e_rk (by rw [r2]), e_inN (by rw [r3]; omega) (by rw [r3]; omega), e_nn, e_rk (by rw [r2]), nI_pred, e_inN (by rw [r3]; omega) (by rw [r3]; omega), nI_clamp (by omega), nI_clamp (by omega), r4 _ (by omega), r4 _ (by omega), nI_1]
  unfold X11_turned
  cases T with
  | zero =>
    obtain ⟨f, hf⟩ : ∃ f, fu_ = f + 1 := ⟨5999, rfl⟩
    rw [hf, lp_end (he 0), e_ob]
    rfl
  | succ T =>
    obtain ⟨k1, -⟩ := for_l (enc := fun (c : Int32) t => (c, nI (t + 1))) (fun a : Int32 × Int32 => X11_turned_b4 u g a.1 a.2) T (tF f2) (fun c => c) (fun _ _ => True) (fun _ _ _ _ => trivial) (fun t c ht _ => hs t c (by omega)) (fun c _ => he c) 0 trivial (n := fu_) (by unfold fu_; omega)
    rw [show (lp_ (fun a : Int32 × Int32 => X11_turned_b4 u g a.1 a.2) fu_ (0, 1)) = _ from k1, e_ob]
theorem X4_all6_l {σ : MS} {n T : Nat} {x1 : Int32} (h : LaP σ n T) (hx : x1 ≠ 5) (hr : ∀ t, t ≤ T → 0 ≤ (m_A σ 62 t).toInt ∧ (m_A σ 62 t).toInt ≤ 999) : lp_ (fun a : Int32 × Int32 × MS => X4_all_b74 x1 a.1 a.2.1 a.2.2) fu_ (0, 0, σ) = some (it_ (tF (m_A σ 62)) 0 T, σ) := by
  have hT := h.2.2.2
  obtain ⟨k1, -⟩ := for_l (enc := fun (c : Int32) t => (c, nI t, σ)) (fun a : Int32 × Int32 × MS => X4_all_b74 x1 a.1 a.2.1 a.2.2) T (fun t c => match t with
      | 0 => c
      | t + 1 => tF (m_A σ 62) t c) (fun c => (c, σ)) (fun _ _ => True) (fun _ _ _ _ => trivial)
    (fun t c ht _ => by
      show X4_all_b74 x1 c (nI t) σ = _
      unfold X4_all_b74 X4_all_j132 X4_all_j134
      rw [h.l, e_ob, if_neg (nI_nlt ht (by omega)), if_neg hx]
      cases t with
      | zero => rw [if_pos nI_0, Int32.add_zero, nI_1]
      | succ t =>
        have h1 := hr (t + 1) ht
        have h2 := hr t (by omega)
        rw [if_neg (nI_ne0 (by omega) (by omega)), e_inN (by omega) (by omega), nI_pred, e_inN (by omega) (by omega), nI_clamp (by omega), nI_clamp (by omega), (off_l (by omega) (by omega)).1, e_ob, nI_1]
        rfl)
    (fun c _ => by
      show X4_all_b74 x1 c (nI (T + 1)) σ = _
      unfold X4_all_b74
      rw [h.l, e_ob, if_pos (nI_lt (by omega) (by omega))]) 0 trivial (n := fu_) (by unfold fu_; omega)
  have e : ∀ t, it_ (fun t (c : Int32) => match t with
      | 0 => c
      | t + 1 => tF (m_A σ 62) t c) 0 (t + 1) = it_ (tF (m_A σ 62)) 0 t := by
    intro t
    induction t with
    | zero => rfl
    | succ t ih =>
      show tF (m_A σ 62) t (it_ _ 0 (t + 1)) = tF (m_A σ 62) t (it_ (tF (m_A σ 62)) 0 t)
      rw [ih]
  rw [e] at k1
  exact k1
/-! what has been seen -/
theorem seen_l {g : GS} {ρ : Nat → Nat} {u oa T x n a rf nf : Nat} {σ : MS} (h : OfP g u oa T (m_A σ 63)) (hx : gR g u 0 = x + 1) (hk : gK g x = 3) (h0 : gI g x 0 = m_A σ 53 0) (hL : LaP σ n T) (ha : gR g u 7 = a + 1)
    (hp : PlP g ρ rf a 8 nf (fun k => m_A σ 75 (2 * k)) (fun k => m_A σ 75 (2 * k + 1))) (hm : m_I σ 74 = nI nf) (hn8 : nf ≤ 8) (hb : ∀ k, k < nf → (0 ≤ (m_A σ 75 (2 * k)).toInt ∧ (m_A σ 75 (2 * k)).toInt ≤ T) ∧ (m_A σ 75 (2 * k + 1) = 0 ∨ m_A σ 75 (2 * k + 1) = 1)) :
    ∃ r, X11_isAsSeen u g = some r ∧ X4_isAsSeen σ = some r ∧ (r = 0 ∨ r = 1) := by
  have hh := h
  have hT := hL.2.2.2
  obtain ⟨h1, ⟨a', sc, a1, a2, -⟩, -⟩ := h
  have haa : a' = a := by rw [a1] at ha; omega
  subst haa
  obtain ⟨l, xs, l1, l2, l3, l4⟩ := hp
  obtain ⟨e, e', m1, m2, m3⟩ := lp2_t (body := fun a => X11_isAsSeen_b2 u g a) (body' := fun a => X4_isAsSeen_b2 σ a) (I := fun k a b => ∃ t, a = nI t ∧ b = nI t ∧ t ≤ nf ∧ k = nf - t) (Q := fun e e' => e = e')
    (by
      rintro k a b ⟨t, rfl, rfl, t1, t2⟩
      unfold X11_isAsSeen_b2 X4_isAsSeen_b2
      rw [e_wk h1, a1, e_nn, e_wk a2, l1, e_nn, e_wk l2.K, J2_size_l l2, e_ob, l3, hm]
      by_cases ht : t < nf
      · obtain ⟨y, hy⟩ := get_ex (xs := xs) (k := t) (by omega)
        obtain ⟨p1, p2, p3, p4, p5, p6⟩ := l4 t y hy
        obtain ⟨b1, b2⟩ := hb t ht
        obtain ⟨s, s1, s2, s3⟩ := i_nat (x := m_A σ 75 (2 * t)) b1.1
        have e2 : (2 : Int32) * nI t = nI (2 * t) := (Int32.ofNat_mul 2 t).symm
        rw [if_neg (nI_ge ht (by omega)), e_nn, e_wk a2, l1, e_nn, e_wk l2.K, J2_get_l l2 hy, e_ob, e_rk (by rw [p1]), e_i0 (by rw [p2]; omega) (by rw [p2]; omega), cl_0, p4]
        rw [if_neg (nI_ge ht (by omega)), e2, e_inN (by omega) (by omega), nI_clamp (by omega)]
        simp only [s1]
        rw [X11_isSharp2_l hh hx hk (by omega), e_ob, e_nn, e_wk a2, l1, e_nn, e_wk l2.K, J2_get_l l2 hy, e_ob, e_rk (by rw [p1]), e_i1 (by rw [p2]; omega) (by rw [p2]; omega), cl_1, p5]
        rw [X4_isSharp_l (by omega), e_ob, nI_1, e_inN (by omega) (by omega), nI_clamp (by omega), h0]
        have key : ∀ q : Int32, (X11_isAsSeen_j67 u (nI t) (sh_ (m_A σ 53 0) (m_A σ 63 s)) q g) = X4_isAsSeen_j41 (nI t) (sh_ (m_A σ 53 0) (m_A σ 63 s)) q σ := fun q => rfl
        rw [key, key]
        unfold X4_isAsSeen_j41
        have e1 : nI t + 1 = nI (t + 1) := nI_1 t
        rw [e1]
        by_cases q : m_A σ 75 (2 * t + 1) = 1
        · rw [if_pos q]
          split
          · exact Or.inl ⟨_, _, k - 1, by omega, rfl, rfl, t + 1, rfl, rfl, by omega, by omega⟩
          · exact Or.inr ⟨_, _, rfl, rfl, rfl⟩
        · rw [if_neg q]
          split
          · exact Or.inl ⟨_, _, k - 1, by omega, rfl, rfl, t + 1, rfl, rfl, by omega, by omega⟩
          · exact Or.inr ⟨_, _, rfl, rfl, rfl⟩
      · rw [if_pos (nI_le (by omega) (by omega)), if_pos (nI_le (by omega) (by omega))]
        exact Or.inr ⟨_, _, rfl, rfl, rfl⟩)
    fu_ nf 0 0 ⟨0, rfl, rfl, Nat.zero_le _, rfl⟩ (by unfold fu_; omega)
  subst m3
  refine ⟨e.elim (fun _ => 0) (fun _ => 1), ?_, ?_, ?_⟩
  · unfold X11_isAsSeen
    rw [m1, e_ob]
    cases e <;> rfl
  · unfold X4_isAsSeen
    rw [m2, e_ob]
    cases e <;> rfl
  · cases e
    · exact Or.inl rfl
    · exact Or.inr rfl
